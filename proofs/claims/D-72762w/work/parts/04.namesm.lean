/-! PromiseTriesModel -/
set_option maxRecDepth 100000
def RX2 : String := "PromiseTriesModel"
def TX2 : u_T := fun k => match k with
  | 0 => ("PromiseTriesModel", "sides", "[I", true)
  | 1 => ("PromiseTriesModel", "draftSides", "[I", true)
  | 2 => ("PromiseTriesModel", "bits", "[J", true)
  | 3 => ("PromiseTriesModel", "draftBits", "[J", true)
  | 4 => ("PromiseTriesModel", "heads", "[I", true)
  | 5 => ("PromiseTriesModel", "draftHeads", "[I", true)
  | 6 => ("PromiseTriesModel", "offs", "[J", true)
  | 7 => ("PromiseTriesModel", "draftOffs", "[J", true)
  | 8 => ("PromiseTriesModel", "promises", "I", false)
  | 9 => ("PromiseTriesModel", "trace", "[I", true)
  | 10 => ("PromiseTriesModel", "kept", "[I", true)
  | 11 => ("PromiseTriesModel", "isKept", "[Z", true)
  | 12 => ("PromiseTriesModel", "tape", "[I", true)
  | 13 => ("PromiseTriesModel", "taped", "I", false)
  | 14 => ("PromiseTriesModel", "pos", "I", false)
  | 15 => ("PromiseTriesModel", "begun", "I", false)
  | 16 => ("PromiseTriesModel", "sort", "I", false)
  | 17 => ("PromiseTriesModel", "figure", "I", false)
  | 18 => ("PromiseTriesModel", "fault", "I", false)
  | 19 => ("PromiseTriesModel", "wrongAt", "I", false)
  | 20 => ("PromiseTriesModel", "open", "I", false)
  | 21 => ("PromiseTriesModel", "ors", "[J", true)
  | 22 => ("PromiseTriesModel", "ands", "[J", true)
  | 23 => ("PromiseTriesModel", "hasOr", "[Z", true)
  | 24 => ("PromiseTriesModel", "hasAnd", "[Z", true)
  | 25 => ("PromiseTriesModel", "isNot", "[Z", true)
  | 26 => ("PromiseTriesModel", "now", "[J", true)
  | 27 => ("PromiseTriesModel", "deep", "I", false)
  | 28 => ("PromiseTriesModel", "patterns", "[J", true)
  | 29 => ("PromiseTriesModel", "begins", "[I", true)
  | 30 => ("PromiseTriesModel", "firsts", "[J", true)
  | 31 => ("PromiseTriesModel", "lasts", "[J", true)
  | 32 => ("PromiseTriesModel", "areNone", "[Z", true)
  | 33 => ("PromiseTriesModel", "longs", "[I", true)
  | 34 => ("PromiseTriesModel", "fews", "[I", true)
  | 35 => ("PromiseTriesModel", "mosts", "[I", true)
  | 36 => ("PromiseTriesModel", "isThere", "[Z", true)
  | 37 => ("PromiseTriesModel", "depth", "I", false)
  | 38 => ("PromiseTriesModel", "side", "I", false)
  | 39 => ("PromiseTriesModel", "isOver", "Z", false)
  | 40 => ("PromiseTriesModel", "fulfilling", "[J", true)
  | 41 => ("PromiseTriesModel", "thenNext", "[J", true)
  | 42 => ("PromiseTriesModel", "dutyIs", "[I", true)
  | 43 => ("PromiseTriesModel", "dutyBy", "[I", true)
  | 44 => ("PromiseTriesModel", "isDuty", "[Z", true)
  | 45 => ("PromiseTriesModel", "verdict", "I", false)
  | 46 => ("PromiseTriesModel", "decidedBy", "I", false)
  | 47 => ("PromiseTriesModel", "seeded", "I", false)
  | 48 => ("PromiseTriesModel", "lanes", "[I", true)
  | 49 => ("PromiseTriesModel", "sizes", "[I", true)
  | 50 => ("PromiseTriesModel", "cells", "[I", true)
  | _ => ("PromiseTriesModel", "torn", "I", false)
def tyX2 : Nat → FieldType := fun k => match k with
  | 0 => .array .int
  | 1 => .array .int
  | 2 => .array .long
  | 3 => .array .long
  | 4 => .array .int
  | 5 => .array .int
  | 6 => .array .long
  | 7 => .array .long
  | 8 => .int
  | 9 => .array .int
  | 10 => .array .int
  | 11 => .array .boolean
  | 12 => .array .int
  | 13 => .int
  | 14 => .int
  | 15 => .int
  | 16 => .int
  | 17 => .int
  | 18 => .int
  | 19 => .int
  | 20 => .int
  | 21 => .array .long
  | 22 => .array .long
  | 23 => .array .boolean
  | 24 => .array .boolean
  | 25 => .array .boolean
  | 26 => .array .long
  | 27 => .int
  | 28 => .array .long
  | 29 => .array .int
  | 30 => .array .long
  | 31 => .array .long
  | 32 => .array .boolean
  | 33 => .array .int
  | 34 => .array .int
  | 35 => .array .int
  | 36 => .array .boolean
  | 37 => .int
  | 38 => .int
  | 39 => .boolean
  | 40 => .array .long
  | 41 => .array .long
  | 42 => .array .int
  | 43 => .array .int
  | 44 => .array .boolean
  | 45 => .int
  | 46 => .int
  | 47 => .int
  | 48 => .array .int
  | 49 => .array .int
  | 50 => .array .int
  | _ => .int
abbrev wsX20 : List Cond := u_ws RX2 TX2 52
set_option maxRecDepth 100000 in
theorem nmX2 : ∀ a, a < 52 → ∀ b, b < 52 → a ≠ b → (TX2 a).2.1 ≠ (TX2 b).2.1 := by decide +kernel
set_option maxRecDepth 100000 in
theorem tyX2_ok : ∀ k, k < 52 → parseFieldDescriptor (TX2 k).2.2.1 = some (tyX2 k) := by decide +kernel
abbrev cX2_init : ByteArray := prog_21_method_1_code
def yX2_init : MethodName := ⟨RX2, "<init>", "()V"⟩
def dkwX2_init_14 : List UInt8 := [180, 0, 120, 27, 16, 252, 79, 132, 1, 1, 167, 255, 240, 177]
abbrev dktX2_init_14 : List UInt8 := dkwX2_init_14 ++ []
def dkwX2_init_13 : List UInt8 := [7, 188, 10, 181, 0, 123, 42, 17, 0, 160, 188, 10, 181, 0, 126, 3, 60, 27, 7, 162, 0, 17, 42]
abbrev dktX2_init_13 : List UInt8 := dkwX2_init_13 ++ dktX2_init_14
def dkwX2_init_12 : List UInt8 := [42, 16, 48, 188, 10, 181, 0, 114, 42, 16, 48, 188, 4, 181, 0, 117, 42, 7, 188, 10, 181, 0, 120, 42]
abbrev dktX2_init_12 : List UInt8 := dkwX2_init_12 ++ dktX2_init_13
def dkwX2_init_11 : List UInt8 := [42, 16, 96, 188, 11, 181, 0, 105, 42, 16, 48, 188, 11, 181, 0, 108, 42, 16, 48, 188, 10, 181, 0, 111]
abbrev dktX2_init_11 : List UInt8 := dkwX2_init_11 ++ dktX2_init_12
def dkwX2_init_10 : List UInt8 := [42, 16, 21, 188, 10, 181, 0, 96, 42, 16, 21, 188, 10, 181, 0, 99, 42, 16, 21, 188, 4, 181, 0, 102]
abbrev dktX2_init_10 : List UInt8 := dkwX2_init_10 ++ dktX2_init_11
def dkwX2_init_9 : List UInt8 := [42, 16, 21, 188, 11, 181, 0, 87, 42, 16, 21, 188, 4, 181, 0, 90, 42, 16, 21, 188, 10, 181, 0, 93]
abbrev dktX2_init_9 : List UInt8 := dkwX2_init_9 ++ dktX2_init_10
def dkwX2_init_8 : List UInt8 := [8, 20, 0, 76, 80, 181, 0, 78, 42, 16, 21, 188, 10, 181, 0, 81, 42, 16, 21, 188, 11, 181, 0, 84]
abbrev dktX2_init_8 : List UInt8 := dkwX2_init_8 ++ dktX2_init_9
def dkwX2_init_7 : List UInt8 := [4, 20, 0, 68, 80, 89, 5, 20, 0, 70, 80, 89, 6, 20, 0, 72, 80, 89, 7, 20, 0, 74, 80, 89]
abbrev dktX2_init_7 : List UInt8 := dkwX2_init_7 ++ dktX2_init_8
def dkwX2_init_6 : List UInt8 := [188, 4, 181, 0, 60, 42, 7, 188, 11, 181, 0, 63, 42, 16, 6, 188, 11, 89, 3, 20, 0, 66, 80, 89]
abbrev dktX2_init_6 : List UInt8 := dkwX2_init_6 ++ dktX2_init_7
def dkwX2_init_5 : List UInt8 := [188, 11, 181, 0, 51, 42, 16, 10, 188, 4, 181, 0, 54, 42, 16, 10, 188, 4, 181, 0, 57, 42, 16, 10]
abbrev dktX2_init_5 : List UInt8 := dkwX2_init_5 ++ dktX2_init_6
def dkwX2_init_4 : List UInt8 := [181, 0, 41, 42, 17, 0, 200, 188, 10, 181, 0, 45, 42, 16, 40, 188, 11, 181, 0, 48, 42, 16, 40]
abbrev dktX2_init_4 : List UInt8 := dkwX2_init_4 ++ dktX2_init_5
def dkwX2_init_3 : List UInt8 := [181, 0, 32, 42, 16, 49, 188, 10, 181, 0, 35, 42, 16, 98, 188, 10, 181, 0, 38, 42, 5, 188, 4]
abbrev dktX2_init_3 : List UInt8 := dkwX2_init_3 ++ dktX2_init_4
def dkwX2_init_2 : List UInt8 := [181, 0, 23, 42, 16, 8, 188, 10, 181, 0, 26, 42, 16, 16, 188, 11, 181, 0, 29, 42, 16, 16, 188, 11]
abbrev dktX2_init_2 : List UInt8 := dkwX2_init_2 ++ dktX2_init_3
def dkwX2_init_1 : List UInt8 := [17, 6, 88, 188, 11, 181, 0, 16, 42, 17, 6, 88, 188, 11, 181, 0, 20, 42, 16, 8, 188, 10]
abbrev dktX2_init_1 : List UInt8 := dkwX2_init_1 ++ dktX2_init_2
def dkwX2_init_0 : List UInt8 := [42, 183, 0, 1, 42, 17, 1, 104, 188, 10, 181, 0, 7, 42, 17, 1, 104, 188, 10, 181, 0, 13, 42]
abbrev dktX2_init_0 : List UInt8 := dkwX2_init_0 ++ dktX2_init_1
theorem dksX2_init_0 : cX2_init.data.toList.drop 0 = dktX2_init_0 := by decide +kernel
theorem dksX2_init_1 : cX2_init.data.toList.drop 23 = dktX2_init_1 := dk_seg dksX2_init_0 23 rfl rfl
theorem dksX2_init_2 : cX2_init.data.toList.drop 45 = dktX2_init_2 := dk_seg dksX2_init_1 22 rfl rfl
theorem dksX2_init_3 : cX2_init.data.toList.drop 69 = dktX2_init_3 := dk_seg dksX2_init_2 24 rfl rfl
theorem dksX2_init_4 : cX2_init.data.toList.drop 92 = dktX2_init_4 := dk_seg dksX2_init_3 23 rfl rfl
theorem dksX2_init_5 : cX2_init.data.toList.drop 115 = dktX2_init_5 := dk_seg dksX2_init_4 23 rfl rfl
theorem dksX2_init_6 : cX2_init.data.toList.drop 139 = dktX2_init_6 := dk_seg dksX2_init_5 24 rfl rfl
theorem dksX2_init_7 : cX2_init.data.toList.drop 163 = dktX2_init_7 := dk_seg dksX2_init_6 24 rfl rfl
theorem dksX2_init_8 : cX2_init.data.toList.drop 187 = dktX2_init_8 := dk_seg dksX2_init_7 24 rfl rfl
theorem dksX2_init_9 : cX2_init.data.toList.drop 211 = dktX2_init_9 := dk_seg dksX2_init_8 24 rfl rfl
theorem dksX2_init_10 : cX2_init.data.toList.drop 235 = dktX2_init_10 := dk_seg dksX2_init_9 24 rfl rfl
theorem dksX2_init_11 : cX2_init.data.toList.drop 259 = dktX2_init_11 := dk_seg dksX2_init_10 24 rfl rfl
theorem dksX2_init_12 : cX2_init.data.toList.drop 283 = dktX2_init_12 := dk_seg dksX2_init_11 24 rfl rfl
theorem dksX2_init_13 : cX2_init.data.toList.drop 307 = dktX2_init_13 := dk_seg dksX2_init_12 24 rfl rfl
theorem dksX2_init_14 : cX2_init.data.toList.drop 330 = dktX2_init_14 := dk_seg dksX2_init_13 23 rfl rfl
theorem dX2_init_0 : decode cX2_init 0 = .ok (.aload_n 0, 1) := dk_42 (dk_at dksX2_init_0 0 rfl rfl)
theorem dX2_init_1 : decode cX2_init 1 = .ok (.invokespecial 1, 3) := dk_183 0 1 (dk_at dksX2_init_0 1 rfl rfl)
theorem dX2_init_4 : decode cX2_init 4 = .ok (.aload_n 0, 1) := dk_42 (dk_at dksX2_init_0 4 rfl rfl)
theorem dX2_init_5 : decode cX2_init 5 = .ok (.sipush 360, 3) := dk_17 1 104 (dk_at dksX2_init_0 5 rfl rfl)
theorem dX2_init_8 : decode cX2_init 8 = .ok (.newarray .int, 2) := dk_188_10 (dk_at dksX2_init_0 8 rfl rfl)
theorem dX2_init_10 : decode cX2_init 10 = .ok (.putfield 7, 3) := dk_181 0 7 (dk_at dksX2_init_0 10 rfl rfl)
theorem dX2_init_13 : decode cX2_init 13 = .ok (.aload_n 0, 1) := dk_42 (dk_at dksX2_init_0 13 rfl rfl)
theorem dX2_init_14 : decode cX2_init 14 = .ok (.sipush 360, 3) := dk_17 1 104 (dk_at dksX2_init_0 14 rfl rfl)
theorem dX2_init_17 : decode cX2_init 17 = .ok (.newarray .int, 2) := dk_188_10 (dk_at dksX2_init_0 17 rfl rfl)
theorem dX2_init_19 : decode cX2_init 19 = .ok (.putfield 13, 3) := dk_181 0 13 (dk_at dksX2_init_0 19 rfl rfl)
theorem dX2_init_22 : decode cX2_init 22 = .ok (.aload_n 0, 1) := dk_42 (dk_at dksX2_init_0 22 rfl rfl)
theorem dX2_init_23 : decode cX2_init 23 = .ok (.sipush 1624, 3) := dk_17 6 88 (dk_at dksX2_init_1 0 rfl rfl)
theorem dX2_init_26 : decode cX2_init 26 = .ok (.newarray .long, 2) := dk_188_11 (dk_at dksX2_init_1 3 rfl rfl)
theorem dX2_init_28 : decode cX2_init 28 = .ok (.putfield 16, 3) := dk_181 0 16 (dk_at dksX2_init_1 5 rfl rfl)
theorem dX2_init_31 : decode cX2_init 31 = .ok (.aload_n 0, 1) := dk_42 (dk_at dksX2_init_1 8 rfl rfl)
theorem dX2_init_32 : decode cX2_init 32 = .ok (.sipush 1624, 3) := dk_17 6 88 (dk_at dksX2_init_1 9 rfl rfl)
theorem dX2_init_35 : decode cX2_init 35 = .ok (.newarray .long, 2) := dk_188_11 (dk_at dksX2_init_1 12 rfl rfl)
theorem dX2_init_37 : decode cX2_init 37 = .ok (.putfield 20, 3) := dk_181 0 20 (dk_at dksX2_init_1 14 rfl rfl)
theorem dX2_init_40 : decode cX2_init 40 = .ok (.aload_n 0, 1) := dk_42 (dk_at dksX2_init_1 17 rfl rfl)
theorem dX2_init_41 : decode cX2_init 41 = .ok (.bipush 8, 2) := dk_16 8 (dk_at dksX2_init_1 18 rfl rfl)
theorem dX2_init_43 : decode cX2_init 43 = .ok (.newarray .int, 2) := dk_188_10 (dk_at dksX2_init_1 20 rfl rfl)
theorem dX2_init_45 : decode cX2_init 45 = .ok (.putfield 23, 3) := dk_181 0 23 (dk_at dksX2_init_2 0 rfl rfl)
theorem dX2_init_48 : decode cX2_init 48 = .ok (.aload_n 0, 1) := dk_42 (dk_at dksX2_init_2 3 rfl rfl)
theorem dX2_init_49 : decode cX2_init 49 = .ok (.bipush 8, 2) := dk_16 8 (dk_at dksX2_init_2 4 rfl rfl)
theorem dX2_init_51 : decode cX2_init 51 = .ok (.newarray .int, 2) := dk_188_10 (dk_at dksX2_init_2 6 rfl rfl)
theorem dX2_init_53 : decode cX2_init 53 = .ok (.putfield 26, 3) := dk_181 0 26 (dk_at dksX2_init_2 8 rfl rfl)
theorem dX2_init_56 : decode cX2_init 56 = .ok (.aload_n 0, 1) := dk_42 (dk_at dksX2_init_2 11 rfl rfl)
theorem dX2_init_57 : decode cX2_init 57 = .ok (.bipush 16, 2) := dk_16 16 (dk_at dksX2_init_2 12 rfl rfl)
theorem dX2_init_59 : decode cX2_init 59 = .ok (.newarray .long, 2) := dk_188_11 (dk_at dksX2_init_2 14 rfl rfl)
theorem dX2_init_61 : decode cX2_init 61 = .ok (.putfield 29, 3) := dk_181 0 29 (dk_at dksX2_init_2 16 rfl rfl)
theorem dX2_init_64 : decode cX2_init 64 = .ok (.aload_n 0, 1) := dk_42 (dk_at dksX2_init_2 19 rfl rfl)
theorem dX2_init_65 : decode cX2_init 65 = .ok (.bipush 16, 2) := dk_16 16 (dk_at dksX2_init_2 20 rfl rfl)
theorem dX2_init_67 : decode cX2_init 67 = .ok (.newarray .long, 2) := dk_188_11 (dk_at dksX2_init_2 22 rfl rfl)
theorem dX2_init_69 : decode cX2_init 69 = .ok (.putfield 32, 3) := dk_181 0 32 (dk_at dksX2_init_3 0 rfl rfl)
theorem dX2_init_72 : decode cX2_init 72 = .ok (.aload_n 0, 1) := dk_42 (dk_at dksX2_init_3 3 rfl rfl)
theorem dX2_init_73 : decode cX2_init 73 = .ok (.bipush 49, 2) := dk_16 49 (dk_at dksX2_init_3 4 rfl rfl)
theorem dX2_init_75 : decode cX2_init 75 = .ok (.newarray .int, 2) := dk_188_10 (dk_at dksX2_init_3 6 rfl rfl)
theorem dX2_init_77 : decode cX2_init 77 = .ok (.putfield 35, 3) := dk_181 0 35 (dk_at dksX2_init_3 8 rfl rfl)
theorem dX2_init_80 : decode cX2_init 80 = .ok (.aload_n 0, 1) := dk_42 (dk_at dksX2_init_3 11 rfl rfl)
theorem dX2_init_81 : decode cX2_init 81 = .ok (.bipush 98, 2) := dk_16 98 (dk_at dksX2_init_3 12 rfl rfl)
theorem dX2_init_83 : decode cX2_init 83 = .ok (.newarray .int, 2) := dk_188_10 (dk_at dksX2_init_3 14 rfl rfl)
theorem dX2_init_85 : decode cX2_init 85 = .ok (.putfield 38, 3) := dk_181 0 38 (dk_at dksX2_init_3 16 rfl rfl)
theorem dX2_init_88 : decode cX2_init 88 = .ok (.aload_n 0, 1) := dk_42 (dk_at dksX2_init_3 19 rfl rfl)
theorem dX2_init_89 : decode cX2_init 89 = .ok (.iconst 2, 1) := dk_5 (dk_at dksX2_init_3 20 rfl rfl)
theorem dX2_init_90 : decode cX2_init 90 = .ok (.newarray .boolean, 2) := dk_188_4 (dk_at dksX2_init_3 21 rfl rfl)
theorem dX2_init_92 : decode cX2_init 92 = .ok (.putfield 41, 3) := dk_181 0 41 (dk_at dksX2_init_4 0 rfl rfl)
theorem dX2_init_95 : decode cX2_init 95 = .ok (.aload_n 0, 1) := dk_42 (dk_at dksX2_init_4 3 rfl rfl)
theorem dX2_init_96 : decode cX2_init 96 = .ok (.sipush 200, 3) := dk_17 0 200 (dk_at dksX2_init_4 4 rfl rfl)
theorem dX2_init_99 : decode cX2_init 99 = .ok (.newarray .int, 2) := dk_188_10 (dk_at dksX2_init_4 7 rfl rfl)
theorem dX2_init_101 : decode cX2_init 101 = .ok (.putfield 45, 3) := dk_181 0 45 (dk_at dksX2_init_4 9 rfl rfl)
theorem dX2_init_104 : decode cX2_init 104 = .ok (.aload_n 0, 1) := dk_42 (dk_at dksX2_init_4 12 rfl rfl)
theorem dX2_init_105 : decode cX2_init 105 = .ok (.bipush 40, 2) := dk_16 40 (dk_at dksX2_init_4 13 rfl rfl)
theorem dX2_init_107 : decode cX2_init 107 = .ok (.newarray .long, 2) := dk_188_11 (dk_at dksX2_init_4 15 rfl rfl)
theorem dX2_init_109 : decode cX2_init 109 = .ok (.putfield 48, 3) := dk_181 0 48 (dk_at dksX2_init_4 17 rfl rfl)
theorem dX2_init_112 : decode cX2_init 112 = .ok (.aload_n 0, 1) := dk_42 (dk_at dksX2_init_4 20 rfl rfl)
theorem dX2_init_113 : decode cX2_init 113 = .ok (.bipush 40, 2) := dk_16 40 (dk_at dksX2_init_4 21 rfl rfl)
theorem dX2_init_115 : decode cX2_init 115 = .ok (.newarray .long, 2) := dk_188_11 (dk_at dksX2_init_5 0 rfl rfl)
theorem dX2_init_117 : decode cX2_init 117 = .ok (.putfield 51, 3) := dk_181 0 51 (dk_at dksX2_init_5 2 rfl rfl)
theorem dX2_init_120 : decode cX2_init 120 = .ok (.aload_n 0, 1) := dk_42 (dk_at dksX2_init_5 5 rfl rfl)
theorem dX2_init_121 : decode cX2_init 121 = .ok (.bipush 10, 2) := dk_16 10 (dk_at dksX2_init_5 6 rfl rfl)
theorem dX2_init_123 : decode cX2_init 123 = .ok (.newarray .boolean, 2) := dk_188_4 (dk_at dksX2_init_5 8 rfl rfl)
theorem dX2_init_125 : decode cX2_init 125 = .ok (.putfield 54, 3) := dk_181 0 54 (dk_at dksX2_init_5 10 rfl rfl)
theorem dX2_init_128 : decode cX2_init 128 = .ok (.aload_n 0, 1) := dk_42 (dk_at dksX2_init_5 13 rfl rfl)
theorem dX2_init_129 : decode cX2_init 129 = .ok (.bipush 10, 2) := dk_16 10 (dk_at dksX2_init_5 14 rfl rfl)
theorem dX2_init_131 : decode cX2_init 131 = .ok (.newarray .boolean, 2) := dk_188_4 (dk_at dksX2_init_5 16 rfl rfl)
theorem dX2_init_133 : decode cX2_init 133 = .ok (.putfield 57, 3) := dk_181 0 57 (dk_at dksX2_init_5 18 rfl rfl)
theorem dX2_init_136 : decode cX2_init 136 = .ok (.aload_n 0, 1) := dk_42 (dk_at dksX2_init_5 21 rfl rfl)
theorem dX2_init_137 : decode cX2_init 137 = .ok (.bipush 10, 2) := dk_16 10 (dk_at dksX2_init_5 22 rfl rfl)
theorem dX2_init_139 : decode cX2_init 139 = .ok (.newarray .boolean, 2) := dk_188_4 (dk_at dksX2_init_6 0 rfl rfl)
theorem dX2_init_141 : decode cX2_init 141 = .ok (.putfield 60, 3) := dk_181 0 60 (dk_at dksX2_init_6 2 rfl rfl)
theorem dX2_init_144 : decode cX2_init 144 = .ok (.aload_n 0, 1) := dk_42 (dk_at dksX2_init_6 5 rfl rfl)
theorem dX2_init_145 : decode cX2_init 145 = .ok (.iconst 4, 1) := dk_7 (dk_at dksX2_init_6 6 rfl rfl)
theorem dX2_init_146 : decode cX2_init 146 = .ok (.newarray .long, 2) := dk_188_11 (dk_at dksX2_init_6 7 rfl rfl)
theorem dX2_init_148 : decode cX2_init 148 = .ok (.putfield 63, 3) := dk_181 0 63 (dk_at dksX2_init_6 9 rfl rfl)
theorem dX2_init_151 : decode cX2_init 151 = .ok (.aload_n 0, 1) := dk_42 (dk_at dksX2_init_6 12 rfl rfl)
theorem dX2_init_152 : decode cX2_init 152 = .ok (.bipush 6, 2) := dk_16 6 (dk_at dksX2_init_6 13 rfl rfl)
theorem dX2_init_154 : decode cX2_init 154 = .ok (.newarray .long, 2) := dk_188_11 (dk_at dksX2_init_6 15 rfl rfl)
theorem dX2_init_156 : decode cX2_init 156 = .ok (.dup, 1) := dk_89 (dk_at dksX2_init_6 17 rfl rfl)
theorem dX2_init_157 : decode cX2_init 157 = .ok (.iconst 0, 1) := dk_3 (dk_at dksX2_init_6 18 rfl rfl)
theorem dX2_init_158 : decode cX2_init 158 = .ok (.ldc2_w 66, 3) := dk_20 0 66 (dk_at dksX2_init_6 19 rfl rfl)
theorem dX2_init_161 : decode cX2_init 161 = .ok (.lastore, 1) := dk_80 (dk_at dksX2_init_6 22 rfl rfl)
theorem dX2_init_162 : decode cX2_init 162 = .ok (.dup, 1) := dk_89 (dk_at dksX2_init_6 23 rfl rfl)
theorem dX2_init_163 : decode cX2_init 163 = .ok (.iconst 1, 1) := dk_4 (dk_at dksX2_init_7 0 rfl rfl)
theorem dX2_init_164 : decode cX2_init 164 = .ok (.ldc2_w 68, 3) := dk_20 0 68 (dk_at dksX2_init_7 1 rfl rfl)
theorem dX2_init_167 : decode cX2_init 167 = .ok (.lastore, 1) := dk_80 (dk_at dksX2_init_7 4 rfl rfl)
theorem dX2_init_168 : decode cX2_init 168 = .ok (.dup, 1) := dk_89 (dk_at dksX2_init_7 5 rfl rfl)
theorem dX2_init_169 : decode cX2_init 169 = .ok (.iconst 2, 1) := dk_5 (dk_at dksX2_init_7 6 rfl rfl)
theorem dX2_init_170 : decode cX2_init 170 = .ok (.ldc2_w 70, 3) := dk_20 0 70 (dk_at dksX2_init_7 7 rfl rfl)
theorem dX2_init_173 : decode cX2_init 173 = .ok (.lastore, 1) := dk_80 (dk_at dksX2_init_7 10 rfl rfl)
theorem dX2_init_174 : decode cX2_init 174 = .ok (.dup, 1) := dk_89 (dk_at dksX2_init_7 11 rfl rfl)
theorem dX2_init_175 : decode cX2_init 175 = .ok (.iconst 3, 1) := dk_6 (dk_at dksX2_init_7 12 rfl rfl)
theorem dX2_init_176 : decode cX2_init 176 = .ok (.ldc2_w 72, 3) := dk_20 0 72 (dk_at dksX2_init_7 13 rfl rfl)
theorem dX2_init_179 : decode cX2_init 179 = .ok (.lastore, 1) := dk_80 (dk_at dksX2_init_7 16 rfl rfl)
theorem dX2_init_180 : decode cX2_init 180 = .ok (.dup, 1) := dk_89 (dk_at dksX2_init_7 17 rfl rfl)
theorem dX2_init_181 : decode cX2_init 181 = .ok (.iconst 4, 1) := dk_7 (dk_at dksX2_init_7 18 rfl rfl)
theorem dX2_init_182 : decode cX2_init 182 = .ok (.ldc2_w 74, 3) := dk_20 0 74 (dk_at dksX2_init_7 19 rfl rfl)
theorem dX2_init_185 : decode cX2_init 185 = .ok (.lastore, 1) := dk_80 (dk_at dksX2_init_7 22 rfl rfl)
theorem dX2_init_186 : decode cX2_init 186 = .ok (.dup, 1) := dk_89 (dk_at dksX2_init_7 23 rfl rfl)
theorem dX2_init_187 : decode cX2_init 187 = .ok (.iconst 5, 1) := dk_8 (dk_at dksX2_init_8 0 rfl rfl)
theorem dX2_init_188 : decode cX2_init 188 = .ok (.ldc2_w 76, 3) := dk_20 0 76 (dk_at dksX2_init_8 1 rfl rfl)
theorem dX2_init_191 : decode cX2_init 191 = .ok (.lastore, 1) := dk_80 (dk_at dksX2_init_8 4 rfl rfl)
theorem dX2_init_192 : decode cX2_init 192 = .ok (.putfield 78, 3) := dk_181 0 78 (dk_at dksX2_init_8 5 rfl rfl)
theorem dX2_init_195 : decode cX2_init 195 = .ok (.aload_n 0, 1) := dk_42 (dk_at dksX2_init_8 8 rfl rfl)
theorem dX2_init_196 : decode cX2_init 196 = .ok (.bipush 21, 2) := dk_16 21 (dk_at dksX2_init_8 9 rfl rfl)
theorem dX2_init_198 : decode cX2_init 198 = .ok (.newarray .int, 2) := dk_188_10 (dk_at dksX2_init_8 11 rfl rfl)
theorem dX2_init_200 : decode cX2_init 200 = .ok (.putfield 81, 3) := dk_181 0 81 (dk_at dksX2_init_8 13 rfl rfl)
theorem dX2_init_203 : decode cX2_init 203 = .ok (.aload_n 0, 1) := dk_42 (dk_at dksX2_init_8 16 rfl rfl)
theorem dX2_init_204 : decode cX2_init 204 = .ok (.bipush 21, 2) := dk_16 21 (dk_at dksX2_init_8 17 rfl rfl)
theorem dX2_init_206 : decode cX2_init 206 = .ok (.newarray .long, 2) := dk_188_11 (dk_at dksX2_init_8 19 rfl rfl)
theorem dX2_init_208 : decode cX2_init 208 = .ok (.putfield 84, 3) := dk_181 0 84 (dk_at dksX2_init_8 21 rfl rfl)
theorem dX2_init_211 : decode cX2_init 211 = .ok (.aload_n 0, 1) := dk_42 (dk_at dksX2_init_9 0 rfl rfl)
theorem dX2_init_212 : decode cX2_init 212 = .ok (.bipush 21, 2) := dk_16 21 (dk_at dksX2_init_9 1 rfl rfl)
theorem dX2_init_214 : decode cX2_init 214 = .ok (.newarray .long, 2) := dk_188_11 (dk_at dksX2_init_9 3 rfl rfl)
theorem dX2_init_216 : decode cX2_init 216 = .ok (.putfield 87, 3) := dk_181 0 87 (dk_at dksX2_init_9 5 rfl rfl)
theorem dX2_init_219 : decode cX2_init 219 = .ok (.aload_n 0, 1) := dk_42 (dk_at dksX2_init_9 8 rfl rfl)
theorem dX2_init_220 : decode cX2_init 220 = .ok (.bipush 21, 2) := dk_16 21 (dk_at dksX2_init_9 9 rfl rfl)
theorem dX2_init_222 : decode cX2_init 222 = .ok (.newarray .boolean, 2) := dk_188_4 (dk_at dksX2_init_9 11 rfl rfl)
theorem dX2_init_224 : decode cX2_init 224 = .ok (.putfield 90, 3) := dk_181 0 90 (dk_at dksX2_init_9 13 rfl rfl)
theorem dX2_init_227 : decode cX2_init 227 = .ok (.aload_n 0, 1) := dk_42 (dk_at dksX2_init_9 16 rfl rfl)
theorem dX2_init_228 : decode cX2_init 228 = .ok (.bipush 21, 2) := dk_16 21 (dk_at dksX2_init_9 17 rfl rfl)
theorem dX2_init_230 : decode cX2_init 230 = .ok (.newarray .int, 2) := dk_188_10 (dk_at dksX2_init_9 19 rfl rfl)
theorem dX2_init_232 : decode cX2_init 232 = .ok (.putfield 93, 3) := dk_181 0 93 (dk_at dksX2_init_9 21 rfl rfl)
theorem dX2_init_235 : decode cX2_init 235 = .ok (.aload_n 0, 1) := dk_42 (dk_at dksX2_init_10 0 rfl rfl)
theorem dX2_init_236 : decode cX2_init 236 = .ok (.bipush 21, 2) := dk_16 21 (dk_at dksX2_init_10 1 rfl rfl)
theorem dX2_init_238 : decode cX2_init 238 = .ok (.newarray .int, 2) := dk_188_10 (dk_at dksX2_init_10 3 rfl rfl)
theorem dX2_init_240 : decode cX2_init 240 = .ok (.putfield 96, 3) := dk_181 0 96 (dk_at dksX2_init_10 5 rfl rfl)
theorem dX2_init_243 : decode cX2_init 243 = .ok (.aload_n 0, 1) := dk_42 (dk_at dksX2_init_10 8 rfl rfl)
theorem dX2_init_244 : decode cX2_init 244 = .ok (.bipush 21, 2) := dk_16 21 (dk_at dksX2_init_10 9 rfl rfl)
theorem dX2_init_246 : decode cX2_init 246 = .ok (.newarray .int, 2) := dk_188_10 (dk_at dksX2_init_10 11 rfl rfl)
theorem dX2_init_248 : decode cX2_init 248 = .ok (.putfield 99, 3) := dk_181 0 99 (dk_at dksX2_init_10 13 rfl rfl)
theorem dX2_init_251 : decode cX2_init 251 = .ok (.aload_n 0, 1) := dk_42 (dk_at dksX2_init_10 16 rfl rfl)
theorem dX2_init_252 : decode cX2_init 252 = .ok (.bipush 21, 2) := dk_16 21 (dk_at dksX2_init_10 17 rfl rfl)
theorem dX2_init_254 : decode cX2_init 254 = .ok (.newarray .boolean, 2) := dk_188_4 (dk_at dksX2_init_10 19 rfl rfl)
theorem dX2_init_256 : decode cX2_init 256 = .ok (.putfield 102, 3) := dk_181 0 102 (dk_at dksX2_init_10 21 rfl rfl)
theorem dX2_init_259 : decode cX2_init 259 = .ok (.aload_n 0, 1) := dk_42 (dk_at dksX2_init_11 0 rfl rfl)
theorem dX2_init_260 : decode cX2_init 260 = .ok (.bipush 96, 2) := dk_16 96 (dk_at dksX2_init_11 1 rfl rfl)
theorem dX2_init_262 : decode cX2_init 262 = .ok (.newarray .long, 2) := dk_188_11 (dk_at dksX2_init_11 3 rfl rfl)
theorem dX2_init_264 : decode cX2_init 264 = .ok (.putfield 105, 3) := dk_181 0 105 (dk_at dksX2_init_11 5 rfl rfl)
theorem dX2_init_267 : decode cX2_init 267 = .ok (.aload_n 0, 1) := dk_42 (dk_at dksX2_init_11 8 rfl rfl)
theorem dX2_init_268 : decode cX2_init 268 = .ok (.bipush 48, 2) := dk_16 48 (dk_at dksX2_init_11 9 rfl rfl)
theorem dX2_init_270 : decode cX2_init 270 = .ok (.newarray .long, 2) := dk_188_11 (dk_at dksX2_init_11 11 rfl rfl)
theorem dX2_init_272 : decode cX2_init 272 = .ok (.putfield 108, 3) := dk_181 0 108 (dk_at dksX2_init_11 13 rfl rfl)
theorem dX2_init_275 : decode cX2_init 275 = .ok (.aload_n 0, 1) := dk_42 (dk_at dksX2_init_11 16 rfl rfl)
theorem dX2_init_276 : decode cX2_init 276 = .ok (.bipush 48, 2) := dk_16 48 (dk_at dksX2_init_11 17 rfl rfl)
theorem dX2_init_278 : decode cX2_init 278 = .ok (.newarray .int, 2) := dk_188_10 (dk_at dksX2_init_11 19 rfl rfl)
theorem dX2_init_280 : decode cX2_init 280 = .ok (.putfield 111, 3) := dk_181 0 111 (dk_at dksX2_init_11 21 rfl rfl)
theorem dX2_init_283 : decode cX2_init 283 = .ok (.aload_n 0, 1) := dk_42 (dk_at dksX2_init_12 0 rfl rfl)
theorem dX2_init_284 : decode cX2_init 284 = .ok (.bipush 48, 2) := dk_16 48 (dk_at dksX2_init_12 1 rfl rfl)
theorem dX2_init_286 : decode cX2_init 286 = .ok (.newarray .int, 2) := dk_188_10 (dk_at dksX2_init_12 3 rfl rfl)
theorem dX2_init_288 : decode cX2_init 288 = .ok (.putfield 114, 3) := dk_181 0 114 (dk_at dksX2_init_12 5 rfl rfl)
theorem dX2_init_291 : decode cX2_init 291 = .ok (.aload_n 0, 1) := dk_42 (dk_at dksX2_init_12 8 rfl rfl)
theorem dX2_init_292 : decode cX2_init 292 = .ok (.bipush 48, 2) := dk_16 48 (dk_at dksX2_init_12 9 rfl rfl)
theorem dX2_init_294 : decode cX2_init 294 = .ok (.newarray .boolean, 2) := dk_188_4 (dk_at dksX2_init_12 11 rfl rfl)
theorem dX2_init_296 : decode cX2_init 296 = .ok (.putfield 117, 3) := dk_181 0 117 (dk_at dksX2_init_12 13 rfl rfl)
theorem dX2_init_299 : decode cX2_init 299 = .ok (.aload_n 0, 1) := dk_42 (dk_at dksX2_init_12 16 rfl rfl)
theorem dX2_init_300 : decode cX2_init 300 = .ok (.iconst 4, 1) := dk_7 (dk_at dksX2_init_12 17 rfl rfl)
theorem dX2_init_301 : decode cX2_init 301 = .ok (.newarray .int, 2) := dk_188_10 (dk_at dksX2_init_12 18 rfl rfl)
theorem dX2_init_303 : decode cX2_init 303 = .ok (.putfield 120, 3) := dk_181 0 120 (dk_at dksX2_init_12 20 rfl rfl)
theorem dX2_init_306 : decode cX2_init 306 = .ok (.aload_n 0, 1) := dk_42 (dk_at dksX2_init_12 23 rfl rfl)
theorem dX2_init_307 : decode cX2_init 307 = .ok (.iconst 4, 1) := dk_7 (dk_at dksX2_init_13 0 rfl rfl)
theorem dX2_init_308 : decode cX2_init 308 = .ok (.newarray .int, 2) := dk_188_10 (dk_at dksX2_init_13 1 rfl rfl)
theorem dX2_init_310 : decode cX2_init 310 = .ok (.putfield 123, 3) := dk_181 0 123 (dk_at dksX2_init_13 3 rfl rfl)
theorem dX2_init_313 : decode cX2_init 313 = .ok (.aload_n 0, 1) := dk_42 (dk_at dksX2_init_13 6 rfl rfl)
theorem dX2_init_314 : decode cX2_init 314 = .ok (.sipush 160, 3) := dk_17 0 160 (dk_at dksX2_init_13 7 rfl rfl)
theorem dX2_init_317 : decode cX2_init 317 = .ok (.newarray .int, 2) := dk_188_10 (dk_at dksX2_init_13 10 rfl rfl)
theorem dX2_init_319 : decode cX2_init 319 = .ok (.putfield 126, 3) := dk_181 0 126 (dk_at dksX2_init_13 12 rfl rfl)
theorem dX2_init_322 : decode cX2_init 322 = .ok (.iconst 0, 1) := dk_3 (dk_at dksX2_init_13 15 rfl rfl)
theorem dX2_init_323 : decode cX2_init 323 = .ok (.istore_n 1, 1) := dk_60 (dk_at dksX2_init_13 16 rfl rfl)
theorem dX2_init_324 : decode cX2_init 324 = .ok (.iload_n 1, 1) := dk_27 (dk_at dksX2_init_13 17 rfl rfl)
theorem dX2_init_325 : decode cX2_init 325 = .ok (.iconst 4, 1) := dk_7 (dk_at dksX2_init_13 18 rfl rfl)
theorem dX2_init_326 : decode cX2_init 326 = .ok (.if_icmp .ge 17, 3) := dk_162 0 17 (dk_at dksX2_init_13 19 rfl rfl)
theorem dX2_init_329 : decode cX2_init 329 = .ok (.aload_n 0, 1) := dk_42 (dk_at dksX2_init_13 22 rfl rfl)
theorem dX2_init_330 : decode cX2_init 330 = .ok (.getfield 120, 3) := dk_180 0 120 (dk_at dksX2_init_14 0 rfl rfl)
theorem dX2_init_333 : decode cX2_init 333 = .ok (.iload_n 1, 1) := dk_27 (dk_at dksX2_init_14 3 rfl rfl)
theorem dX2_init_334 : decode cX2_init 334 = .ok (.bipush (-4), 2) := dk_16 252 (dk_at dksX2_init_14 4 rfl rfl)
theorem dX2_init_336 : decode cX2_init 336 = .ok (.iastore, 1) := dk_79 (dk_at dksX2_init_14 6 rfl rfl)
theorem dX2_init_337 : decode cX2_init 337 = .ok (.iinc 1 1, 3) := dk_132 1 1 (dk_at dksX2_init_14 7 rfl rfl)
theorem dX2_init_340 : decode cX2_init 340 = .ok (.goto (-16), 3) := dk_167 255 240 (dk_at dksX2_init_14 10 rfl rfl)
theorem dX2_init_343 : decode cX2_init 343 = .ok (.return_, 1) := dk_177 (dk_at dksX2_init_14 13 rfl rfl)
abbrev cX2_feed : ByteArray := prog_21_method_7_code
def yX2_feed : MethodName := ⟨RX2, "feed", "(I)I"⟩
def dkwX2_feed_2 : List UInt8 := [180, 0, 135, 172]
abbrev dktX2_feed_2 : List UInt8 := dkwX2_feed_2 ++ []
def dkwX2_feed_1 : List UInt8 := [16, 253, 172, 42, 180, 0, 45, 42, 180, 0, 135, 27, 79, 42, 89, 180, 0, 135, 4, 96, 181, 0, 135, 42]
abbrev dktX2_feed_1 : List UInt8 := dkwX2_feed_1 ++ dktX2_feed_2
def dkwX2_feed_0 : List UInt8 := [27, 133, 9, 20, 0, 129, 184, 0, 131, 154, 0, 5, 2, 172, 42, 180, 0, 135, 17, 0, 200, 160, 0, 6]
abbrev dktX2_feed_0 : List UInt8 := dkwX2_feed_0 ++ dktX2_feed_1
theorem dksX2_feed_0 : cX2_feed.data.toList.drop 0 = dktX2_feed_0 := by decide +kernel
theorem dksX2_feed_1 : cX2_feed.data.toList.drop 24 = dktX2_feed_1 := dk_seg dksX2_feed_0 24 rfl rfl
theorem dksX2_feed_2 : cX2_feed.data.toList.drop 48 = dktX2_feed_2 := dk_seg dksX2_feed_1 24 rfl rfl
theorem dX2_feed_0 : decode cX2_feed 0 = .ok (.iload_n 1, 1) := dk_27 (dk_at dksX2_feed_0 0 rfl rfl)
theorem dX2_feed_1 : decode cX2_feed 1 = .ok (.i2l, 1) := dk_133 (dk_at dksX2_feed_0 1 rfl rfl)
theorem dX2_feed_2 : decode cX2_feed 2 = .ok (.lconst 0, 1) := dk_9 (dk_at dksX2_feed_0 2 rfl rfl)
theorem dX2_feed_3 : decode cX2_feed 3 = .ok (.ldc2_w 129, 3) := dk_20 0 129 (dk_at dksX2_feed_0 3 rfl rfl)
theorem dX2_feed_6 : decode cX2_feed 6 = .ok (.invokestatic 131, 3) := dk_184 0 131 (dk_at dksX2_feed_0 6 rfl rfl)
theorem dX2_feed_9 : decode cX2_feed 9 = .ok (.ifCond .ne 5, 3) := dk_154 0 5 (dk_at dksX2_feed_0 9 rfl rfl)
theorem dX2_feed_12 : decode cX2_feed 12 = .ok (.iconst (-1), 1) := dk_2 (dk_at dksX2_feed_0 12 rfl rfl)
theorem dX2_feed_13 : decode cX2_feed 13 = .ok (.ireturn, 1) := dk_172 (dk_at dksX2_feed_0 13 rfl rfl)
theorem dX2_feed_14 : decode cX2_feed 14 = .ok (.aload_n 0, 1) := dk_42 (dk_at dksX2_feed_0 14 rfl rfl)
theorem dX2_feed_15 : decode cX2_feed 15 = .ok (.getfield 135, 3) := dk_180 0 135 (dk_at dksX2_feed_0 15 rfl rfl)
theorem dX2_feed_18 : decode cX2_feed 18 = .ok (.sipush 200, 3) := dk_17 0 200 (dk_at dksX2_feed_0 18 rfl rfl)
theorem dX2_feed_21 : decode cX2_feed 21 = .ok (.if_icmp .ne 6, 3) := dk_160 0 6 (dk_at dksX2_feed_0 21 rfl rfl)
theorem dX2_feed_24 : decode cX2_feed 24 = .ok (.bipush (-3), 2) := dk_16 253 (dk_at dksX2_feed_1 0 rfl rfl)
theorem dX2_feed_26 : decode cX2_feed 26 = .ok (.ireturn, 1) := dk_172 (dk_at dksX2_feed_1 2 rfl rfl)
theorem dX2_feed_27 : decode cX2_feed 27 = .ok (.aload_n 0, 1) := dk_42 (dk_at dksX2_feed_1 3 rfl rfl)
theorem dX2_feed_28 : decode cX2_feed 28 = .ok (.getfield 45, 3) := dk_180 0 45 (dk_at dksX2_feed_1 4 rfl rfl)
theorem dX2_feed_31 : decode cX2_feed 31 = .ok (.aload_n 0, 1) := dk_42 (dk_at dksX2_feed_1 7 rfl rfl)
theorem dX2_feed_32 : decode cX2_feed 32 = .ok (.getfield 135, 3) := dk_180 0 135 (dk_at dksX2_feed_1 8 rfl rfl)
theorem dX2_feed_35 : decode cX2_feed 35 = .ok (.iload_n 1, 1) := dk_27 (dk_at dksX2_feed_1 11 rfl rfl)
theorem dX2_feed_36 : decode cX2_feed 36 = .ok (.iastore, 1) := dk_79 (dk_at dksX2_feed_1 12 rfl rfl)
theorem dX2_feed_37 : decode cX2_feed 37 = .ok (.aload_n 0, 1) := dk_42 (dk_at dksX2_feed_1 13 rfl rfl)
theorem dX2_feed_38 : decode cX2_feed 38 = .ok (.dup, 1) := dk_89 (dk_at dksX2_feed_1 14 rfl rfl)
theorem dX2_feed_39 : decode cX2_feed 39 = .ok (.getfield 135, 3) := dk_180 0 135 (dk_at dksX2_feed_1 15 rfl rfl)
theorem dX2_feed_42 : decode cX2_feed 42 = .ok (.iconst 1, 1) := dk_4 (dk_at dksX2_feed_1 18 rfl rfl)
theorem dX2_feed_43 : decode cX2_feed 43 = .ok (.iadd, 1) := dk_96 (dk_at dksX2_feed_1 19 rfl rfl)
theorem dX2_feed_44 : decode cX2_feed 44 = .ok (.putfield 135, 3) := dk_181 0 135 (dk_at dksX2_feed_1 20 rfl rfl)
theorem dX2_feed_47 : decode cX2_feed 47 = .ok (.aload_n 0, 1) := dk_42 (dk_at dksX2_feed_1 23 rfl rfl)
theorem dX2_feed_48 : decode cX2_feed 48 = .ok (.getfield 135, 3) := dk_180 0 135 (dk_at dksX2_feed_2 0 rfl rfl)
theorem dX2_feed_51 : decode cX2_feed 51 = .ok (.ireturn, 1) := dk_172 (dk_at dksX2_feed_2 3 rfl rfl)
abbrev cX2_in : ByteArray := prog_21_method_3_code
def yX2_in : MethodName := ⟨RX2, "in", "(JJJ)Z"⟩
def dkwX2_in_0 : List UInt8 := [30, 32, 148, 155, 0, 14, 30, 22, 4, 148, 157, 0, 7, 4, 167, 0, 4, 3, 172]
abbrev dktX2_in_0 : List UInt8 := dkwX2_in_0 ++ []
theorem dksX2_in_0 : cX2_in.data.toList.drop 0 = dktX2_in_0 := by decide +kernel
theorem dX2_in_0 : decode cX2_in 0 = .ok (.lload_n 0, 1) := dk_30 (dk_at dksX2_in_0 0 rfl rfl)
theorem dX2_in_1 : decode cX2_in 1 = .ok (.lload_n 2, 1) := dk_32 (dk_at dksX2_in_0 1 rfl rfl)
theorem dX2_in_2 : decode cX2_in 2 = .ok (.lcmp, 1) := dk_148 (dk_at dksX2_in_0 2 rfl rfl)
theorem dX2_in_3 : decode cX2_in 3 = .ok (.ifCond .lt 14, 3) := dk_155 0 14 (dk_at dksX2_in_0 3 rfl rfl)
theorem dX2_in_6 : decode cX2_in 6 = .ok (.lload_n 0, 1) := dk_30 (dk_at dksX2_in_0 6 rfl rfl)
theorem dX2_in_7 : decode cX2_in 7 = .ok (.lload 4, 2) := dk_22 4 (dk_at dksX2_in_0 7 rfl rfl)
theorem dX2_in_9 : decode cX2_in 9 = .ok (.lcmp, 1) := dk_148 (dk_at dksX2_in_0 9 rfl rfl)
theorem dX2_in_10 : decode cX2_in 10 = .ok (.ifCond .gt 7, 3) := dk_157 0 7 (dk_at dksX2_in_0 10 rfl rfl)
theorem dX2_in_13 : decode cX2_in 13 = .ok (.iconst 1, 1) := dk_4 (dk_at dksX2_in_0 13 rfl rfl)
theorem dX2_in_14 : decode cX2_in 14 = .ok (.goto 4, 3) := dk_167 0 4 (dk_at dksX2_in_0 14 rfl rfl)
theorem dX2_in_17 : decode cX2_in 17 = .ok (.iconst 0, 1) := dk_3 (dk_at dksX2_in_0 17 rfl rfl)
theorem dX2_in_18 : decode cX2_in 18 = .ok (.ireturn, 1) := dk_172 (dk_at dksX2_in_0 18 rfl rfl)
abbrev cX2_end : ByteArray := prog_21_method_8_code
def yX2_end : MethodName := ⟨RX2, "end", "(I)I"⟩
def dkwX2_end_1 : List UInt8 := [181, 0, 135, 28, 172]
abbrev dktX2_end_1 : List UInt8 := dkwX2_end_1 ++ []
def dkwX2_end_0 : List UInt8 := [27, 133, 9, 42, 180, 0, 135, 133, 184, 0, 131, 154, 0, 5, 2, 172, 42, 180, 0, 135, 61, 42, 27]
abbrev dktX2_end_0 : List UInt8 := dkwX2_end_0 ++ dktX2_end_1
theorem dksX2_end_0 : cX2_end.data.toList.drop 0 = dktX2_end_0 := by decide +kernel
theorem dksX2_end_1 : cX2_end.data.toList.drop 23 = dktX2_end_1 := dk_seg dksX2_end_0 23 rfl rfl
theorem dX2_end_0 : decode cX2_end 0 = .ok (.iload_n 1, 1) := dk_27 (dk_at dksX2_end_0 0 rfl rfl)
theorem dX2_end_1 : decode cX2_end 1 = .ok (.i2l, 1) := dk_133 (dk_at dksX2_end_0 1 rfl rfl)
theorem dX2_end_2 : decode cX2_end 2 = .ok (.lconst 0, 1) := dk_9 (dk_at dksX2_end_0 2 rfl rfl)
theorem dX2_end_3 : decode cX2_end 3 = .ok (.aload_n 0, 1) := dk_42 (dk_at dksX2_end_0 3 rfl rfl)
theorem dX2_end_4 : decode cX2_end 4 = .ok (.getfield 135, 3) := dk_180 0 135 (dk_at dksX2_end_0 4 rfl rfl)
theorem dX2_end_7 : decode cX2_end 7 = .ok (.i2l, 1) := dk_133 (dk_at dksX2_end_0 7 rfl rfl)
theorem dX2_end_8 : decode cX2_end 8 = .ok (.invokestatic 131, 3) := dk_184 0 131 (dk_at dksX2_end_0 8 rfl rfl)
theorem dX2_end_11 : decode cX2_end 11 = .ok (.ifCond .ne 5, 3) := dk_154 0 5 (dk_at dksX2_end_0 11 rfl rfl)
theorem dX2_end_14 : decode cX2_end 14 = .ok (.iconst (-1), 1) := dk_2 (dk_at dksX2_end_0 14 rfl rfl)
theorem dX2_end_15 : decode cX2_end 15 = .ok (.ireturn, 1) := dk_172 (dk_at dksX2_end_0 15 rfl rfl)
theorem dX2_end_16 : decode cX2_end 16 = .ok (.aload_n 0, 1) := dk_42 (dk_at dksX2_end_0 16 rfl rfl)
theorem dX2_end_17 : decode cX2_end 17 = .ok (.getfield 135, 3) := dk_180 0 135 (dk_at dksX2_end_0 17 rfl rfl)
theorem dX2_end_20 : decode cX2_end 20 = .ok (.istore_n 2, 1) := dk_61 (dk_at dksX2_end_0 20 rfl rfl)
theorem dX2_end_21 : decode cX2_end 21 = .ok (.aload_n 0, 1) := dk_42 (dk_at dksX2_end_0 21 rfl rfl)
theorem dX2_end_22 : decode cX2_end 22 = .ok (.iload_n 1, 1) := dk_27 (dk_at dksX2_end_0 22 rfl rfl)
theorem dX2_end_23 : decode cX2_end 23 = .ok (.putfield 135, 3) := dk_181 0 135 (dk_at dksX2_end_1 0 rfl rfl)
theorem dX2_end_26 : decode cX2_end 26 = .ok (.iload_n 2, 1) := dk_28 (dk_at dksX2_end_1 3 rfl rfl)
theorem dX2_end_27 : decode cX2_end 27 = .ok (.ireturn, 1) := dk_172 (dk_at dksX2_end_1 4 rfl rfl)
abbrev cX2_text : ByteArray := prog_21_method_39_code
def yX2_text : MethodName := ⟨RX2, "text", "()I"⟩
def dkwX2_text_7 : List UInt8 := [47, 80, 132, 2, 1, 167, 255, 235, 42, 180, 0, 41, 3, 3, 84, 42, 180, 0, 41, 4, 3, 84, 27, 172]
abbrev dktX2_text_7 : List UInt8 := dkwX2_text_7 ++ []
def dkwX2_text_6 : List UInt8 := [132, 2, 1, 167, 255, 235, 3, 61, 28, 16, 16, 162, 0, 21, 42, 180, 0, 29, 28, 42, 180, 0, 32, 28]
abbrev dktX2_text_6 : List UInt8 := dkwX2_text_6 ++ dktX2_text_7
def dkwX2_text_5 : List UInt8 := [167, 255, 234, 3, 61, 28, 16, 8, 162, 0, 21, 42, 180, 0, 23, 28, 42, 180, 0, 26, 28, 46, 79]
abbrev dktX2_text_5 : List UInt8 := dkwX2_text_5 ++ dktX2_text_6
def dkwX2_text_4 : List UInt8 := [3, 61, 28, 17, 6, 88, 162, 0, 21, 42, 180, 0, 16, 28, 42, 180, 0, 20, 28, 47, 80, 132, 2, 1]
abbrev dktX2_text_4 : List UInt8 := dkwX2_text_4 ++ dktX2_text_5
def dkwX2_text_3 : List UInt8 := [17, 1, 104, 162, 0, 21, 42, 180, 0, 7, 28, 42, 180, 0, 13, 28, 46, 79, 132, 2, 1, 167, 255, 234]
abbrev dktX2_text_3 : List UInt8 := dkwX2_text_3 ++ dktX2_text_4
def dkwX2_text_2 : List UInt8 := [180, 0, 139, 158, 0, 11, 16, 246, 42, 180, 0, 145, 100, 172, 42, 27, 181, 1, 39, 3, 61, 28]
abbrev dktX2_text_2 : List UInt8 := dkwX2_text_2 ++ dktX2_text_3
def dkwX2_text_1 : List UInt8 := [180, 0, 155, 153, 0, 14, 42, 27, 182, 1, 36, 132, 1, 1, 167, 255, 234, 42, 3, 181, 0, 135, 42]
abbrev dktX2_text_1 : List UInt8 := dkwX2_text_1 ++ dktX2_text_2
def dkwX2_text_0 : List UInt8 := [42, 3, 181, 0, 139, 42, 3, 181, 0, 148, 3, 60, 42, 182, 0, 177, 42, 180, 0, 139, 154, 0, 21, 42]
abbrev dktX2_text_0 : List UInt8 := dkwX2_text_0 ++ dktX2_text_1
theorem dksX2_text_0 : cX2_text.data.toList.drop 0 = dktX2_text_0 := by decide +kernel
theorem dksX2_text_1 : cX2_text.data.toList.drop 24 = dktX2_text_1 := dk_seg dksX2_text_0 24 rfl rfl
theorem dksX2_text_2 : cX2_text.data.toList.drop 47 = dktX2_text_2 := dk_seg dksX2_text_1 23 rfl rfl
theorem dksX2_text_3 : cX2_text.data.toList.drop 69 = dktX2_text_3 := dk_seg dksX2_text_2 22 rfl rfl
theorem dksX2_text_4 : cX2_text.data.toList.drop 93 = dktX2_text_4 := dk_seg dksX2_text_3 24 rfl rfl
theorem dksX2_text_5 : cX2_text.data.toList.drop 117 = dktX2_text_5 := dk_seg dksX2_text_4 24 rfl rfl
theorem dksX2_text_6 : cX2_text.data.toList.drop 140 = dktX2_text_6 := dk_seg dksX2_text_5 23 rfl rfl
theorem dksX2_text_7 : cX2_text.data.toList.drop 164 = dktX2_text_7 := dk_seg dksX2_text_6 24 rfl rfl
theorem dX2_text_0 : decode cX2_text 0 = .ok (.aload_n 0, 1) := dk_42 (dk_at dksX2_text_0 0 rfl rfl)
theorem dX2_text_1 : decode cX2_text 1 = .ok (.iconst 0, 1) := dk_3 (dk_at dksX2_text_0 1 rfl rfl)
theorem dX2_text_2 : decode cX2_text 2 = .ok (.putfield 139, 3) := dk_181 0 139 (dk_at dksX2_text_0 2 rfl rfl)
theorem dX2_text_5 : decode cX2_text 5 = .ok (.aload_n 0, 1) := dk_42 (dk_at dksX2_text_0 5 rfl rfl)
theorem dX2_text_6 : decode cX2_text 6 = .ok (.iconst 0, 1) := dk_3 (dk_at dksX2_text_0 6 rfl rfl)
theorem dX2_text_7 : decode cX2_text 7 = .ok (.putfield 148, 3) := dk_181 0 148 (dk_at dksX2_text_0 7 rfl rfl)
theorem dX2_text_10 : decode cX2_text 10 = .ok (.iconst 0, 1) := dk_3 (dk_at dksX2_text_0 10 rfl rfl)
theorem dX2_text_11 : decode cX2_text 11 = .ok (.istore_n 1, 1) := dk_60 (dk_at dksX2_text_0 11 rfl rfl)
theorem dX2_text_12 : decode cX2_text 12 = .ok (.aload_n 0, 1) := dk_42 (dk_at dksX2_text_0 12 rfl rfl)
theorem dX2_text_13 : decode cX2_text 13 = .ok (.invokevirtual 177, 3) := dk_182 0 177 (dk_at dksX2_text_0 13 rfl rfl)
theorem dX2_text_16 : decode cX2_text 16 = .ok (.aload_n 0, 1) := dk_42 (dk_at dksX2_text_0 16 rfl rfl)
theorem dX2_text_17 : decode cX2_text 17 = .ok (.getfield 139, 3) := dk_180 0 139 (dk_at dksX2_text_0 17 rfl rfl)
theorem dX2_text_20 : decode cX2_text 20 = .ok (.ifCond .ne 21, 3) := dk_154 0 21 (dk_at dksX2_text_0 20 rfl rfl)
theorem dX2_text_23 : decode cX2_text 23 = .ok (.aload_n 0, 1) := dk_42 (dk_at dksX2_text_0 23 rfl rfl)
theorem dX2_text_24 : decode cX2_text 24 = .ok (.getfield 155, 3) := dk_180 0 155 (dk_at dksX2_text_1 0 rfl rfl)
theorem dX2_text_27 : decode cX2_text 27 = .ok (.ifCond .eq 14, 3) := dk_153 0 14 (dk_at dksX2_text_1 3 rfl rfl)
theorem dX2_text_30 : decode cX2_text 30 = .ok (.aload_n 0, 1) := dk_42 (dk_at dksX2_text_1 6 rfl rfl)
theorem dX2_text_31 : decode cX2_text 31 = .ok (.iload_n 1, 1) := dk_27 (dk_at dksX2_text_1 7 rfl rfl)
theorem dX2_text_32 : decode cX2_text 32 = .ok (.invokevirtual 292, 3) := dk_182 1 36 (dk_at dksX2_text_1 8 rfl rfl)
theorem dX2_text_35 : decode cX2_text 35 = .ok (.iinc 1 1, 3) := dk_132 1 1 (dk_at dksX2_text_1 11 rfl rfl)
theorem dX2_text_38 : decode cX2_text 38 = .ok (.goto (-22), 3) := dk_167 255 234 (dk_at dksX2_text_1 14 rfl rfl)
theorem dX2_text_41 : decode cX2_text 41 = .ok (.aload_n 0, 1) := dk_42 (dk_at dksX2_text_1 17 rfl rfl)
theorem dX2_text_42 : decode cX2_text 42 = .ok (.iconst 0, 1) := dk_3 (dk_at dksX2_text_1 18 rfl rfl)
theorem dX2_text_43 : decode cX2_text 43 = .ok (.putfield 135, 3) := dk_181 0 135 (dk_at dksX2_text_1 19 rfl rfl)
theorem dX2_text_46 : decode cX2_text 46 = .ok (.aload_n 0, 1) := dk_42 (dk_at dksX2_text_1 22 rfl rfl)
theorem dX2_text_47 : decode cX2_text 47 = .ok (.getfield 139, 3) := dk_180 0 139 (dk_at dksX2_text_2 0 rfl rfl)
theorem dX2_text_50 : decode cX2_text 50 = .ok (.ifCond .le 11, 3) := dk_158 0 11 (dk_at dksX2_text_2 3 rfl rfl)
theorem dX2_text_53 : decode cX2_text 53 = .ok (.bipush (-10), 2) := dk_16 246 (dk_at dksX2_text_2 6 rfl rfl)
theorem dX2_text_55 : decode cX2_text 55 = .ok (.aload_n 0, 1) := dk_42 (dk_at dksX2_text_2 8 rfl rfl)
theorem dX2_text_56 : decode cX2_text 56 = .ok (.getfield 145, 3) := dk_180 0 145 (dk_at dksX2_text_2 9 rfl rfl)
theorem dX2_text_59 : decode cX2_text 59 = .ok (.isub, 1) := dk_100 (dk_at dksX2_text_2 12 rfl rfl)
theorem dX2_text_60 : decode cX2_text 60 = .ok (.ireturn, 1) := dk_172 (dk_at dksX2_text_2 13 rfl rfl)
theorem dX2_text_61 : decode cX2_text 61 = .ok (.aload_n 0, 1) := dk_42 (dk_at dksX2_text_2 14 rfl rfl)
theorem dX2_text_62 : decode cX2_text 62 = .ok (.iload_n 1, 1) := dk_27 (dk_at dksX2_text_2 15 rfl rfl)
theorem dX2_text_63 : decode cX2_text 63 = .ok (.putfield 295, 3) := dk_181 1 39 (dk_at dksX2_text_2 16 rfl rfl)
theorem dX2_text_66 : decode cX2_text 66 = .ok (.iconst 0, 1) := dk_3 (dk_at dksX2_text_2 19 rfl rfl)
theorem dX2_text_67 : decode cX2_text 67 = .ok (.istore_n 2, 1) := dk_61 (dk_at dksX2_text_2 20 rfl rfl)
theorem dX2_text_68 : decode cX2_text 68 = .ok (.iload_n 2, 1) := dk_28 (dk_at dksX2_text_2 21 rfl rfl)
theorem dX2_text_69 : decode cX2_text 69 = .ok (.sipush 360, 3) := dk_17 1 104 (dk_at dksX2_text_3 0 rfl rfl)
theorem dX2_text_72 : decode cX2_text 72 = .ok (.if_icmp .ge 21, 3) := dk_162 0 21 (dk_at dksX2_text_3 3 rfl rfl)
theorem dX2_text_75 : decode cX2_text 75 = .ok (.aload_n 0, 1) := dk_42 (dk_at dksX2_text_3 6 rfl rfl)
theorem dX2_text_76 : decode cX2_text 76 = .ok (.getfield 7, 3) := dk_180 0 7 (dk_at dksX2_text_3 7 rfl rfl)
theorem dX2_text_79 : decode cX2_text 79 = .ok (.iload_n 2, 1) := dk_28 (dk_at dksX2_text_3 10 rfl rfl)
theorem dX2_text_80 : decode cX2_text 80 = .ok (.aload_n 0, 1) := dk_42 (dk_at dksX2_text_3 11 rfl rfl)
theorem dX2_text_81 : decode cX2_text 81 = .ok (.getfield 13, 3) := dk_180 0 13 (dk_at dksX2_text_3 12 rfl rfl)
theorem dX2_text_84 : decode cX2_text 84 = .ok (.iload_n 2, 1) := dk_28 (dk_at dksX2_text_3 15 rfl rfl)
theorem dX2_text_85 : decode cX2_text 85 = .ok (.iaload, 1) := dk_46 (dk_at dksX2_text_3 16 rfl rfl)
theorem dX2_text_86 : decode cX2_text 86 = .ok (.iastore, 1) := dk_79 (dk_at dksX2_text_3 17 rfl rfl)
theorem dX2_text_87 : decode cX2_text 87 = .ok (.iinc 2 1, 3) := dk_132 2 1 (dk_at dksX2_text_3 18 rfl rfl)
theorem dX2_text_90 : decode cX2_text 90 = .ok (.goto (-22), 3) := dk_167 255 234 (dk_at dksX2_text_3 21 rfl rfl)
theorem dX2_text_93 : decode cX2_text 93 = .ok (.iconst 0, 1) := dk_3 (dk_at dksX2_text_4 0 rfl rfl)
theorem dX2_text_94 : decode cX2_text 94 = .ok (.istore_n 2, 1) := dk_61 (dk_at dksX2_text_4 1 rfl rfl)
theorem dX2_text_95 : decode cX2_text 95 = .ok (.iload_n 2, 1) := dk_28 (dk_at dksX2_text_4 2 rfl rfl)
theorem dX2_text_96 : decode cX2_text 96 = .ok (.sipush 1624, 3) := dk_17 6 88 (dk_at dksX2_text_4 3 rfl rfl)
theorem dX2_text_99 : decode cX2_text 99 = .ok (.if_icmp .ge 21, 3) := dk_162 0 21 (dk_at dksX2_text_4 6 rfl rfl)
theorem dX2_text_102 : decode cX2_text 102 = .ok (.aload_n 0, 1) := dk_42 (dk_at dksX2_text_4 9 rfl rfl)
theorem dX2_text_103 : decode cX2_text 103 = .ok (.getfield 16, 3) := dk_180 0 16 (dk_at dksX2_text_4 10 rfl rfl)
theorem dX2_text_106 : decode cX2_text 106 = .ok (.iload_n 2, 1) := dk_28 (dk_at dksX2_text_4 13 rfl rfl)
theorem dX2_text_107 : decode cX2_text 107 = .ok (.aload_n 0, 1) := dk_42 (dk_at dksX2_text_4 14 rfl rfl)
theorem dX2_text_108 : decode cX2_text 108 = .ok (.getfield 20, 3) := dk_180 0 20 (dk_at dksX2_text_4 15 rfl rfl)
theorem dX2_text_111 : decode cX2_text 111 = .ok (.iload_n 2, 1) := dk_28 (dk_at dksX2_text_4 18 rfl rfl)
theorem dX2_text_112 : decode cX2_text 112 = .ok (.laload, 1) := dk_47 (dk_at dksX2_text_4 19 rfl rfl)
theorem dX2_text_113 : decode cX2_text 113 = .ok (.lastore, 1) := dk_80 (dk_at dksX2_text_4 20 rfl rfl)
theorem dX2_text_114 : decode cX2_text 114 = .ok (.iinc 2 1, 3) := dk_132 2 1 (dk_at dksX2_text_4 21 rfl rfl)
theorem dX2_text_117 : decode cX2_text 117 = .ok (.goto (-22), 3) := dk_167 255 234 (dk_at dksX2_text_5 0 rfl rfl)
theorem dX2_text_120 : decode cX2_text 120 = .ok (.iconst 0, 1) := dk_3 (dk_at dksX2_text_5 3 rfl rfl)
theorem dX2_text_121 : decode cX2_text 121 = .ok (.istore_n 2, 1) := dk_61 (dk_at dksX2_text_5 4 rfl rfl)
theorem dX2_text_122 : decode cX2_text 122 = .ok (.iload_n 2, 1) := dk_28 (dk_at dksX2_text_5 5 rfl rfl)
theorem dX2_text_123 : decode cX2_text 123 = .ok (.bipush 8, 2) := dk_16 8 (dk_at dksX2_text_5 6 rfl rfl)
theorem dX2_text_125 : decode cX2_text 125 = .ok (.if_icmp .ge 21, 3) := dk_162 0 21 (dk_at dksX2_text_5 8 rfl rfl)
theorem dX2_text_128 : decode cX2_text 128 = .ok (.aload_n 0, 1) := dk_42 (dk_at dksX2_text_5 11 rfl rfl)
theorem dX2_text_129 : decode cX2_text 129 = .ok (.getfield 23, 3) := dk_180 0 23 (dk_at dksX2_text_5 12 rfl rfl)
theorem dX2_text_132 : decode cX2_text 132 = .ok (.iload_n 2, 1) := dk_28 (dk_at dksX2_text_5 15 rfl rfl)
theorem dX2_text_133 : decode cX2_text 133 = .ok (.aload_n 0, 1) := dk_42 (dk_at dksX2_text_5 16 rfl rfl)
theorem dX2_text_134 : decode cX2_text 134 = .ok (.getfield 26, 3) := dk_180 0 26 (dk_at dksX2_text_5 17 rfl rfl)
theorem dX2_text_137 : decode cX2_text 137 = .ok (.iload_n 2, 1) := dk_28 (dk_at dksX2_text_5 20 rfl rfl)
theorem dX2_text_138 : decode cX2_text 138 = .ok (.iaload, 1) := dk_46 (dk_at dksX2_text_5 21 rfl rfl)
theorem dX2_text_139 : decode cX2_text 139 = .ok (.iastore, 1) := dk_79 (dk_at dksX2_text_5 22 rfl rfl)
theorem dX2_text_140 : decode cX2_text 140 = .ok (.iinc 2 1, 3) := dk_132 2 1 (dk_at dksX2_text_6 0 rfl rfl)
theorem dX2_text_143 : decode cX2_text 143 = .ok (.goto (-21), 3) := dk_167 255 235 (dk_at dksX2_text_6 3 rfl rfl)
theorem dX2_text_146 : decode cX2_text 146 = .ok (.iconst 0, 1) := dk_3 (dk_at dksX2_text_6 6 rfl rfl)
theorem dX2_text_147 : decode cX2_text 147 = .ok (.istore_n 2, 1) := dk_61 (dk_at dksX2_text_6 7 rfl rfl)
theorem dX2_text_148 : decode cX2_text 148 = .ok (.iload_n 2, 1) := dk_28 (dk_at dksX2_text_6 8 rfl rfl)
theorem dX2_text_149 : decode cX2_text 149 = .ok (.bipush 16, 2) := dk_16 16 (dk_at dksX2_text_6 9 rfl rfl)
theorem dX2_text_151 : decode cX2_text 151 = .ok (.if_icmp .ge 21, 3) := dk_162 0 21 (dk_at dksX2_text_6 11 rfl rfl)
theorem dX2_text_154 : decode cX2_text 154 = .ok (.aload_n 0, 1) := dk_42 (dk_at dksX2_text_6 14 rfl rfl)
theorem dX2_text_155 : decode cX2_text 155 = .ok (.getfield 29, 3) := dk_180 0 29 (dk_at dksX2_text_6 15 rfl rfl)
theorem dX2_text_158 : decode cX2_text 158 = .ok (.iload_n 2, 1) := dk_28 (dk_at dksX2_text_6 18 rfl rfl)
theorem dX2_text_159 : decode cX2_text 159 = .ok (.aload_n 0, 1) := dk_42 (dk_at dksX2_text_6 19 rfl rfl)
theorem dX2_text_160 : decode cX2_text 160 = .ok (.getfield 32, 3) := dk_180 0 32 (dk_at dksX2_text_6 20 rfl rfl)
theorem dX2_text_163 : decode cX2_text 163 = .ok (.iload_n 2, 1) := dk_28 (dk_at dksX2_text_6 23 rfl rfl)
theorem dX2_text_164 : decode cX2_text 164 = .ok (.laload, 1) := dk_47 (dk_at dksX2_text_7 0 rfl rfl)
theorem dX2_text_165 : decode cX2_text 165 = .ok (.lastore, 1) := dk_80 (dk_at dksX2_text_7 1 rfl rfl)
theorem dX2_text_166 : decode cX2_text 166 = .ok (.iinc 2 1, 3) := dk_132 2 1 (dk_at dksX2_text_7 2 rfl rfl)
theorem dX2_text_169 : decode cX2_text 169 = .ok (.goto (-21), 3) := dk_167 255 235 (dk_at dksX2_text_7 5 rfl rfl)
theorem dX2_text_172 : decode cX2_text 172 = .ok (.aload_n 0, 1) := dk_42 (dk_at dksX2_text_7 8 rfl rfl)
theorem dX2_text_173 : decode cX2_text 173 = .ok (.getfield 41, 3) := dk_180 0 41 (dk_at dksX2_text_7 9 rfl rfl)
theorem dX2_text_176 : decode cX2_text 176 = .ok (.iconst 0, 1) := dk_3 (dk_at dksX2_text_7 12 rfl rfl)
theorem dX2_text_177 : decode cX2_text 177 = .ok (.iconst 0, 1) := dk_3 (dk_at dksX2_text_7 13 rfl rfl)
theorem dX2_text_178 : decode cX2_text 178 = .ok (.bastore, 1) := dk_84 (dk_at dksX2_text_7 14 rfl rfl)
theorem dX2_text_179 : decode cX2_text 179 = .ok (.aload_n 0, 1) := dk_42 (dk_at dksX2_text_7 15 rfl rfl)
theorem dX2_text_180 : decode cX2_text 180 = .ok (.getfield 41, 3) := dk_180 0 41 (dk_at dksX2_text_7 16 rfl rfl)
theorem dX2_text_183 : decode cX2_text 183 = .ok (.iconst 1, 1) := dk_4 (dk_at dksX2_text_7 19 rfl rfl)
theorem dX2_text_184 : decode cX2_text 184 = .ok (.iconst 0, 1) := dk_3 (dk_at dksX2_text_7 20 rfl rfl)
theorem dX2_text_185 : decode cX2_text 185 = .ok (.bastore, 1) := dk_84 (dk_at dksX2_text_7 21 rfl rfl)
theorem dX2_text_186 : decode cX2_text 186 = .ok (.iload_n 1, 1) := dk_27 (dk_at dksX2_text_7 22 rfl rfl)
theorem dX2_text_187 : decode cX2_text 187 = .ok (.ireturn, 1) := dk_172 (dk_at dksX2_text_7 23 rfl rfl)
abbrev cX2_reads : ByteArray := prog_21_method_12_code
def yX2_reads : MethodName := ⟨RX2, "reads", "()V"⟩
def dkwX2_reads_10 : List UInt8 := [4, 182, 0, 165, 42, 89, 180, 0, 148, 4, 96, 181, 0, 148, 177]
abbrev dktX2_reads_10 : List UInt8 := dkwX2_reads_10 ++ []
def dkwX2_reads_9 : List UInt8 := [181, 0, 155, 42, 42, 180, 0, 155, 4, 159, 0, 10, 27, 184, 0, 173, 153, 0, 7, 4, 167, 0, 4, 3]
abbrev dktX2_reads_9 : List UInt8 := dkwX2_reads_9 ++ dktX2_reads_10
def dkwX2_reads_8 : List UInt8 := [167, 0, 61, 42, 27, 133, 20, 0, 169, 20, 0, 171, 184, 0, 131, 153, 0, 7, 4, 167, 0, 4, 6]
abbrev dktX2_reads_8 : List UInt8 := dkwX2_reads_8 ++ dktX2_reads_9
def dkwX2_reads_7 : List UInt8 := [42, 180, 0, 148, 42, 180, 0, 142, 100, 5, 163, 0, 7, 4, 167, 0, 4, 3, 4, 182, 0, 165]
abbrev dktX2_reads_7 : List UInt8 := dkwX2_reads_7 ++ dktX2_reads_8
def dkwX2_reads_6 : List UInt8 := [167, 0, 7, 42, 180, 0, 162, 181, 0, 162, 42, 89, 180, 0, 148, 4, 96, 181, 0, 148, 167, 255, 182, 42]
abbrev dktX2_reads_6 : List UInt8 := dkwX2_reads_6 ++ dktX2_reads_7
def dkwX2_reads_5 : List UInt8 := [162, 0, 25, 16, 10, 42, 180, 0, 162, 104, 42, 42, 180, 0, 148, 182, 0, 151, 96, 16, 48, 100]
abbrev dktX2_reads_5 : List UInt8 := dkwX2_reads_5 ++ dktX2_reads_6
def dkwX2_reads_4 : List UInt8 := [133, 20, 0, 158, 20, 0, 160, 184, 0, 131, 153, 0, 59, 42, 42, 180, 0, 148, 42, 180, 0, 142, 100, 5]
abbrev dktX2_reads_4 : List UInt8 := dkwX2_reads_4 ++ dktX2_reads_5
def dkwX2_reads_3 : List UInt8 := [184, 0, 131, 153, 0, 116, 42, 5, 181, 0, 155, 42, 3, 181, 0, 162, 42, 42, 180, 0, 148, 182, 0, 151]
abbrev dktX2_reads_3 : List UInt8 := dkwX2_reads_3 ++ dktX2_reads_4
def dkwX2_reads_2 : List UInt8 := [182, 0, 151, 60, 27, 156, 0, 11, 42, 3, 181, 0, 155, 167, 0, 188, 27, 133, 20, 0, 158, 20, 0, 160]
abbrev dktX2_reads_2 : List UInt8 := dkwX2_reads_2 ++ dktX2_reads_3
def dkwX2_reads_1 : List UInt8 := [180, 0, 148, 4, 96, 181, 0, 148, 167, 255, 233, 42, 42, 180, 0, 148, 181, 0, 142, 42, 42, 180, 0, 148]
abbrev dktX2_reads_1 : List UInt8 := dkwX2_reads_1 ++ dktX2_reads_2
def dkwX2_reads_0 : List UInt8 := [42, 180, 0, 139, 158, 0, 4, 177, 42, 42, 180, 0, 148, 182, 0, 151, 16, 32, 160, 0, 16, 42, 89]
abbrev dktX2_reads_0 : List UInt8 := dkwX2_reads_0 ++ dktX2_reads_1
theorem dksX2_reads_0 : cX2_reads.data.toList.drop 0 = dktX2_reads_0 := by decide +kernel
theorem dksX2_reads_1 : cX2_reads.data.toList.drop 23 = dktX2_reads_1 := dk_seg dksX2_reads_0 23 rfl rfl
theorem dksX2_reads_2 : cX2_reads.data.toList.drop 47 = dktX2_reads_2 := dk_seg dksX2_reads_1 24 rfl rfl
theorem dksX2_reads_3 : cX2_reads.data.toList.drop 71 = dktX2_reads_3 := dk_seg dksX2_reads_2 24 rfl rfl
theorem dksX2_reads_4 : cX2_reads.data.toList.drop 95 = dktX2_reads_4 := dk_seg dksX2_reads_3 24 rfl rfl
theorem dksX2_reads_5 : cX2_reads.data.toList.drop 119 = dktX2_reads_5 := dk_seg dksX2_reads_4 24 rfl rfl
theorem dksX2_reads_6 : cX2_reads.data.toList.drop 141 = dktX2_reads_6 := dk_seg dksX2_reads_5 22 rfl rfl
theorem dksX2_reads_7 : cX2_reads.data.toList.drop 165 = dktX2_reads_7 := dk_seg dksX2_reads_6 24 rfl rfl
theorem dksX2_reads_8 : cX2_reads.data.toList.drop 187 = dktX2_reads_8 := dk_seg dksX2_reads_7 22 rfl rfl
theorem dksX2_reads_9 : cX2_reads.data.toList.drop 210 = dktX2_reads_9 := dk_seg dksX2_reads_8 23 rfl rfl
theorem dksX2_reads_10 : cX2_reads.data.toList.drop 234 = dktX2_reads_10 := dk_seg dksX2_reads_9 24 rfl rfl
theorem dX2_reads_0 : decode cX2_reads 0 = .ok (.aload_n 0, 1) := dk_42 (dk_at dksX2_reads_0 0 rfl rfl)
theorem dX2_reads_1 : decode cX2_reads 1 = .ok (.getfield 139, 3) := dk_180 0 139 (dk_at dksX2_reads_0 1 rfl rfl)
theorem dX2_reads_4 : decode cX2_reads 4 = .ok (.ifCond .le 4, 3) := dk_158 0 4 (dk_at dksX2_reads_0 4 rfl rfl)
theorem dX2_reads_7 : decode cX2_reads 7 = .ok (.return_, 1) := dk_177 (dk_at dksX2_reads_0 7 rfl rfl)
theorem dX2_reads_8 : decode cX2_reads 8 = .ok (.aload_n 0, 1) := dk_42 (dk_at dksX2_reads_0 8 rfl rfl)
theorem dX2_reads_9 : decode cX2_reads 9 = .ok (.aload_n 0, 1) := dk_42 (dk_at dksX2_reads_0 9 rfl rfl)
theorem dX2_reads_10 : decode cX2_reads 10 = .ok (.getfield 148, 3) := dk_180 0 148 (dk_at dksX2_reads_0 10 rfl rfl)
theorem dX2_reads_13 : decode cX2_reads 13 = .ok (.invokevirtual 151, 3) := dk_182 0 151 (dk_at dksX2_reads_0 13 rfl rfl)
theorem dX2_reads_16 : decode cX2_reads 16 = .ok (.bipush 32, 2) := dk_16 32 (dk_at dksX2_reads_0 16 rfl rfl)
theorem dX2_reads_18 : decode cX2_reads 18 = .ok (.if_icmp .ne 16, 3) := dk_160 0 16 (dk_at dksX2_reads_0 18 rfl rfl)
theorem dX2_reads_21 : decode cX2_reads 21 = .ok (.aload_n 0, 1) := dk_42 (dk_at dksX2_reads_0 21 rfl rfl)
theorem dX2_reads_22 : decode cX2_reads 22 = .ok (.dup, 1) := dk_89 (dk_at dksX2_reads_0 22 rfl rfl)
theorem dX2_reads_23 : decode cX2_reads 23 = .ok (.getfield 148, 3) := dk_180 0 148 (dk_at dksX2_reads_1 0 rfl rfl)
theorem dX2_reads_26 : decode cX2_reads 26 = .ok (.iconst 1, 1) := dk_4 (dk_at dksX2_reads_1 3 rfl rfl)
theorem dX2_reads_27 : decode cX2_reads 27 = .ok (.iadd, 1) := dk_96 (dk_at dksX2_reads_1 4 rfl rfl)
theorem dX2_reads_28 : decode cX2_reads 28 = .ok (.putfield 148, 3) := dk_181 0 148 (dk_at dksX2_reads_1 5 rfl rfl)
theorem dX2_reads_31 : decode cX2_reads 31 = .ok (.goto (-23), 3) := dk_167 255 233 (dk_at dksX2_reads_1 8 rfl rfl)
theorem dX2_reads_34 : decode cX2_reads 34 = .ok (.aload_n 0, 1) := dk_42 (dk_at dksX2_reads_1 11 rfl rfl)
theorem dX2_reads_35 : decode cX2_reads 35 = .ok (.aload_n 0, 1) := dk_42 (dk_at dksX2_reads_1 12 rfl rfl)
theorem dX2_reads_36 : decode cX2_reads 36 = .ok (.getfield 148, 3) := dk_180 0 148 (dk_at dksX2_reads_1 13 rfl rfl)
theorem dX2_reads_39 : decode cX2_reads 39 = .ok (.putfield 142, 3) := dk_181 0 142 (dk_at dksX2_reads_1 16 rfl rfl)
theorem dX2_reads_42 : decode cX2_reads 42 = .ok (.aload_n 0, 1) := dk_42 (dk_at dksX2_reads_1 19 rfl rfl)
theorem dX2_reads_43 : decode cX2_reads 43 = .ok (.aload_n 0, 1) := dk_42 (dk_at dksX2_reads_1 20 rfl rfl)
theorem dX2_reads_44 : decode cX2_reads 44 = .ok (.getfield 148, 3) := dk_180 0 148 (dk_at dksX2_reads_1 21 rfl rfl)
theorem dX2_reads_47 : decode cX2_reads 47 = .ok (.invokevirtual 151, 3) := dk_182 0 151 (dk_at dksX2_reads_2 0 rfl rfl)
theorem dX2_reads_50 : decode cX2_reads 50 = .ok (.istore_n 1, 1) := dk_60 (dk_at dksX2_reads_2 3 rfl rfl)
theorem dX2_reads_51 : decode cX2_reads 51 = .ok (.iload_n 1, 1) := dk_27 (dk_at dksX2_reads_2 4 rfl rfl)
theorem dX2_reads_52 : decode cX2_reads 52 = .ok (.ifCond .ge 11, 3) := dk_156 0 11 (dk_at dksX2_reads_2 5 rfl rfl)
theorem dX2_reads_55 : decode cX2_reads 55 = .ok (.aload_n 0, 1) := dk_42 (dk_at dksX2_reads_2 8 rfl rfl)
theorem dX2_reads_56 : decode cX2_reads 56 = .ok (.iconst 0, 1) := dk_3 (dk_at dksX2_reads_2 9 rfl rfl)
theorem dX2_reads_57 : decode cX2_reads 57 = .ok (.putfield 155, 3) := dk_181 0 155 (dk_at dksX2_reads_2 10 rfl rfl)
theorem dX2_reads_60 : decode cX2_reads 60 = .ok (.goto 188, 3) := dk_167 0 188 (dk_at dksX2_reads_2 13 rfl rfl)
theorem dX2_reads_63 : decode cX2_reads 63 = .ok (.iload_n 1, 1) := dk_27 (dk_at dksX2_reads_2 16 rfl rfl)
theorem dX2_reads_64 : decode cX2_reads 64 = .ok (.i2l, 1) := dk_133 (dk_at dksX2_reads_2 17 rfl rfl)
theorem dX2_reads_65 : decode cX2_reads 65 = .ok (.ldc2_w 158, 3) := dk_20 0 158 (dk_at dksX2_reads_2 18 rfl rfl)
theorem dX2_reads_68 : decode cX2_reads 68 = .ok (.ldc2_w 160, 3) := dk_20 0 160 (dk_at dksX2_reads_2 21 rfl rfl)
theorem dX2_reads_71 : decode cX2_reads 71 = .ok (.invokestatic 131, 3) := dk_184 0 131 (dk_at dksX2_reads_3 0 rfl rfl)
theorem dX2_reads_74 : decode cX2_reads 74 = .ok (.ifCond .eq 116, 3) := dk_153 0 116 (dk_at dksX2_reads_3 3 rfl rfl)
theorem dX2_reads_77 : decode cX2_reads 77 = .ok (.aload_n 0, 1) := dk_42 (dk_at dksX2_reads_3 6 rfl rfl)
theorem dX2_reads_78 : decode cX2_reads 78 = .ok (.iconst 2, 1) := dk_5 (dk_at dksX2_reads_3 7 rfl rfl)
theorem dX2_reads_79 : decode cX2_reads 79 = .ok (.putfield 155, 3) := dk_181 0 155 (dk_at dksX2_reads_3 8 rfl rfl)
theorem dX2_reads_82 : decode cX2_reads 82 = .ok (.aload_n 0, 1) := dk_42 (dk_at dksX2_reads_3 11 rfl rfl)
theorem dX2_reads_83 : decode cX2_reads 83 = .ok (.iconst 0, 1) := dk_3 (dk_at dksX2_reads_3 12 rfl rfl)
theorem dX2_reads_84 : decode cX2_reads 84 = .ok (.putfield 162, 3) := dk_181 0 162 (dk_at dksX2_reads_3 13 rfl rfl)
theorem dX2_reads_87 : decode cX2_reads 87 = .ok (.aload_n 0, 1) := dk_42 (dk_at dksX2_reads_3 16 rfl rfl)
theorem dX2_reads_88 : decode cX2_reads 88 = .ok (.aload_n 0, 1) := dk_42 (dk_at dksX2_reads_3 17 rfl rfl)
theorem dX2_reads_89 : decode cX2_reads 89 = .ok (.getfield 148, 3) := dk_180 0 148 (dk_at dksX2_reads_3 18 rfl rfl)
theorem dX2_reads_92 : decode cX2_reads 92 = .ok (.invokevirtual 151, 3) := dk_182 0 151 (dk_at dksX2_reads_3 21 rfl rfl)
theorem dX2_reads_95 : decode cX2_reads 95 = .ok (.i2l, 1) := dk_133 (dk_at dksX2_reads_4 0 rfl rfl)
theorem dX2_reads_96 : decode cX2_reads 96 = .ok (.ldc2_w 158, 3) := dk_20 0 158 (dk_at dksX2_reads_4 1 rfl rfl)
theorem dX2_reads_99 : decode cX2_reads 99 = .ok (.ldc2_w 160, 3) := dk_20 0 160 (dk_at dksX2_reads_4 4 rfl rfl)
theorem dX2_reads_102 : decode cX2_reads 102 = .ok (.invokestatic 131, 3) := dk_184 0 131 (dk_at dksX2_reads_4 7 rfl rfl)
theorem dX2_reads_105 : decode cX2_reads 105 = .ok (.ifCond .eq 59, 3) := dk_153 0 59 (dk_at dksX2_reads_4 10 rfl rfl)
theorem dX2_reads_108 : decode cX2_reads 108 = .ok (.aload_n 0, 1) := dk_42 (dk_at dksX2_reads_4 13 rfl rfl)
theorem dX2_reads_109 : decode cX2_reads 109 = .ok (.aload_n 0, 1) := dk_42 (dk_at dksX2_reads_4 14 rfl rfl)
theorem dX2_reads_110 : decode cX2_reads 110 = .ok (.getfield 148, 3) := dk_180 0 148 (dk_at dksX2_reads_4 15 rfl rfl)
theorem dX2_reads_113 : decode cX2_reads 113 = .ok (.aload_n 0, 1) := dk_42 (dk_at dksX2_reads_4 18 rfl rfl)
theorem dX2_reads_114 : decode cX2_reads 114 = .ok (.getfield 142, 3) := dk_180 0 142 (dk_at dksX2_reads_4 19 rfl rfl)
theorem dX2_reads_117 : decode cX2_reads 117 = .ok (.isub, 1) := dk_100 (dk_at dksX2_reads_4 22 rfl rfl)
theorem dX2_reads_118 : decode cX2_reads 118 = .ok (.iconst 2, 1) := dk_5 (dk_at dksX2_reads_4 23 rfl rfl)
theorem dX2_reads_119 : decode cX2_reads 119 = .ok (.if_icmp .ge 25, 3) := dk_162 0 25 (dk_at dksX2_reads_5 0 rfl rfl)
theorem dX2_reads_122 : decode cX2_reads 122 = .ok (.bipush 10, 2) := dk_16 10 (dk_at dksX2_reads_5 3 rfl rfl)
theorem dX2_reads_124 : decode cX2_reads 124 = .ok (.aload_n 0, 1) := dk_42 (dk_at dksX2_reads_5 5 rfl rfl)
theorem dX2_reads_125 : decode cX2_reads 125 = .ok (.getfield 162, 3) := dk_180 0 162 (dk_at dksX2_reads_5 6 rfl rfl)
theorem dX2_reads_128 : decode cX2_reads 128 = .ok (.imul, 1) := dk_104 (dk_at dksX2_reads_5 9 rfl rfl)
theorem dX2_reads_129 : decode cX2_reads 129 = .ok (.aload_n 0, 1) := dk_42 (dk_at dksX2_reads_5 10 rfl rfl)
theorem dX2_reads_130 : decode cX2_reads 130 = .ok (.aload_n 0, 1) := dk_42 (dk_at dksX2_reads_5 11 rfl rfl)
theorem dX2_reads_131 : decode cX2_reads 131 = .ok (.getfield 148, 3) := dk_180 0 148 (dk_at dksX2_reads_5 12 rfl rfl)
theorem dX2_reads_134 : decode cX2_reads 134 = .ok (.invokevirtual 151, 3) := dk_182 0 151 (dk_at dksX2_reads_5 15 rfl rfl)
theorem dX2_reads_137 : decode cX2_reads 137 = .ok (.iadd, 1) := dk_96 (dk_at dksX2_reads_5 18 rfl rfl)
theorem dX2_reads_138 : decode cX2_reads 138 = .ok (.bipush 48, 2) := dk_16 48 (dk_at dksX2_reads_5 19 rfl rfl)
theorem dX2_reads_140 : decode cX2_reads 140 = .ok (.isub, 1) := dk_100 (dk_at dksX2_reads_5 21 rfl rfl)
theorem dX2_reads_141 : decode cX2_reads 141 = .ok (.goto 7, 3) := dk_167 0 7 (dk_at dksX2_reads_6 0 rfl rfl)
theorem dX2_reads_144 : decode cX2_reads 144 = .ok (.aload_n 0, 1) := dk_42 (dk_at dksX2_reads_6 3 rfl rfl)
theorem dX2_reads_145 : decode cX2_reads 145 = .ok (.getfield 162, 3) := dk_180 0 162 (dk_at dksX2_reads_6 4 rfl rfl)
theorem dX2_reads_148 : decode cX2_reads 148 = .ok (.putfield 162, 3) := dk_181 0 162 (dk_at dksX2_reads_6 7 rfl rfl)
theorem dX2_reads_151 : decode cX2_reads 151 = .ok (.aload_n 0, 1) := dk_42 (dk_at dksX2_reads_6 10 rfl rfl)
theorem dX2_reads_152 : decode cX2_reads 152 = .ok (.dup, 1) := dk_89 (dk_at dksX2_reads_6 11 rfl rfl)
theorem dX2_reads_153 : decode cX2_reads 153 = .ok (.getfield 148, 3) := dk_180 0 148 (dk_at dksX2_reads_6 12 rfl rfl)
theorem dX2_reads_156 : decode cX2_reads 156 = .ok (.iconst 1, 1) := dk_4 (dk_at dksX2_reads_6 15 rfl rfl)
theorem dX2_reads_157 : decode cX2_reads 157 = .ok (.iadd, 1) := dk_96 (dk_at dksX2_reads_6 16 rfl rfl)
theorem dX2_reads_158 : decode cX2_reads 158 = .ok (.putfield 148, 3) := dk_181 0 148 (dk_at dksX2_reads_6 17 rfl rfl)
theorem dX2_reads_161 : decode cX2_reads 161 = .ok (.goto (-74), 3) := dk_167 255 182 (dk_at dksX2_reads_6 20 rfl rfl)
theorem dX2_reads_164 : decode cX2_reads 164 = .ok (.aload_n 0, 1) := dk_42 (dk_at dksX2_reads_6 23 rfl rfl)
theorem dX2_reads_165 : decode cX2_reads 165 = .ok (.aload_n 0, 1) := dk_42 (dk_at dksX2_reads_7 0 rfl rfl)
theorem dX2_reads_166 : decode cX2_reads 166 = .ok (.getfield 148, 3) := dk_180 0 148 (dk_at dksX2_reads_7 1 rfl rfl)
theorem dX2_reads_169 : decode cX2_reads 169 = .ok (.aload_n 0, 1) := dk_42 (dk_at dksX2_reads_7 4 rfl rfl)
theorem dX2_reads_170 : decode cX2_reads 170 = .ok (.getfield 142, 3) := dk_180 0 142 (dk_at dksX2_reads_7 5 rfl rfl)
theorem dX2_reads_173 : decode cX2_reads 173 = .ok (.isub, 1) := dk_100 (dk_at dksX2_reads_7 8 rfl rfl)
theorem dX2_reads_174 : decode cX2_reads 174 = .ok (.iconst 2, 1) := dk_5 (dk_at dksX2_reads_7 9 rfl rfl)
theorem dX2_reads_175 : decode cX2_reads 175 = .ok (.if_icmp .gt 7, 3) := dk_163 0 7 (dk_at dksX2_reads_7 10 rfl rfl)
theorem dX2_reads_178 : decode cX2_reads 178 = .ok (.iconst 1, 1) := dk_4 (dk_at dksX2_reads_7 13 rfl rfl)
theorem dX2_reads_179 : decode cX2_reads 179 = .ok (.goto 4, 3) := dk_167 0 4 (dk_at dksX2_reads_7 14 rfl rfl)
theorem dX2_reads_182 : decode cX2_reads 182 = .ok (.iconst 0, 1) := dk_3 (dk_at dksX2_reads_7 17 rfl rfl)
theorem dX2_reads_183 : decode cX2_reads 183 = .ok (.iconst 1, 1) := dk_4 (dk_at dksX2_reads_7 18 rfl rfl)
theorem dX2_reads_184 : decode cX2_reads 184 = .ok (.invokevirtual 165, 3) := dk_182 0 165 (dk_at dksX2_reads_7 19 rfl rfl)
theorem dX2_reads_187 : decode cX2_reads 187 = .ok (.goto 61, 3) := dk_167 0 61 (dk_at dksX2_reads_8 0 rfl rfl)
theorem dX2_reads_190 : decode cX2_reads 190 = .ok (.aload_n 0, 1) := dk_42 (dk_at dksX2_reads_8 3 rfl rfl)
theorem dX2_reads_191 : decode cX2_reads 191 = .ok (.iload_n 1, 1) := dk_27 (dk_at dksX2_reads_8 4 rfl rfl)
theorem dX2_reads_192 : decode cX2_reads 192 = .ok (.i2l, 1) := dk_133 (dk_at dksX2_reads_8 5 rfl rfl)
theorem dX2_reads_193 : decode cX2_reads 193 = .ok (.ldc2_w 169, 3) := dk_20 0 169 (dk_at dksX2_reads_8 6 rfl rfl)
theorem dX2_reads_196 : decode cX2_reads 196 = .ok (.ldc2_w 171, 3) := dk_20 0 171 (dk_at dksX2_reads_8 9 rfl rfl)
theorem dX2_reads_199 : decode cX2_reads 199 = .ok (.invokestatic 131, 3) := dk_184 0 131 (dk_at dksX2_reads_8 12 rfl rfl)
theorem dX2_reads_202 : decode cX2_reads 202 = .ok (.ifCond .eq 7, 3) := dk_153 0 7 (dk_at dksX2_reads_8 15 rfl rfl)
theorem dX2_reads_205 : decode cX2_reads 205 = .ok (.iconst 1, 1) := dk_4 (dk_at dksX2_reads_8 18 rfl rfl)
theorem dX2_reads_206 : decode cX2_reads 206 = .ok (.goto 4, 3) := dk_167 0 4 (dk_at dksX2_reads_8 19 rfl rfl)
theorem dX2_reads_209 : decode cX2_reads 209 = .ok (.iconst 3, 1) := dk_6 (dk_at dksX2_reads_8 22 rfl rfl)
theorem dX2_reads_210 : decode cX2_reads 210 = .ok (.putfield 155, 3) := dk_181 0 155 (dk_at dksX2_reads_9 0 rfl rfl)
theorem dX2_reads_213 : decode cX2_reads 213 = .ok (.aload_n 0, 1) := dk_42 (dk_at dksX2_reads_9 3 rfl rfl)
theorem dX2_reads_214 : decode cX2_reads 214 = .ok (.aload_n 0, 1) := dk_42 (dk_at dksX2_reads_9 4 rfl rfl)
theorem dX2_reads_215 : decode cX2_reads 215 = .ok (.getfield 155, 3) := dk_180 0 155 (dk_at dksX2_reads_9 5 rfl rfl)
theorem dX2_reads_218 : decode cX2_reads 218 = .ok (.iconst 1, 1) := dk_4 (dk_at dksX2_reads_9 8 rfl rfl)
theorem dX2_reads_219 : decode cX2_reads 219 = .ok (.if_icmp .eq 10, 3) := dk_159 0 10 (dk_at dksX2_reads_9 9 rfl rfl)
theorem dX2_reads_222 : decode cX2_reads 222 = .ok (.iload_n 1, 1) := dk_27 (dk_at dksX2_reads_9 12 rfl rfl)
theorem dX2_reads_223 : decode cX2_reads 223 = .ok (.invokestatic 173, 3) := dk_184 0 173 (dk_at dksX2_reads_9 13 rfl rfl)
theorem dX2_reads_226 : decode cX2_reads 226 = .ok (.ifCond .eq 7, 3) := dk_153 0 7 (dk_at dksX2_reads_9 16 rfl rfl)
theorem dX2_reads_229 : decode cX2_reads 229 = .ok (.iconst 1, 1) := dk_4 (dk_at dksX2_reads_9 19 rfl rfl)
theorem dX2_reads_230 : decode cX2_reads 230 = .ok (.goto 4, 3) := dk_167 0 4 (dk_at dksX2_reads_9 20 rfl rfl)
theorem dX2_reads_233 : decode cX2_reads 233 = .ok (.iconst 0, 1) := dk_3 (dk_at dksX2_reads_9 23 rfl rfl)
theorem dX2_reads_234 : decode cX2_reads 234 = .ok (.iconst 1, 1) := dk_4 (dk_at dksX2_reads_10 0 rfl rfl)
theorem dX2_reads_235 : decode cX2_reads 235 = .ok (.invokevirtual 165, 3) := dk_182 0 165 (dk_at dksX2_reads_10 1 rfl rfl)
theorem dX2_reads_238 : decode cX2_reads 238 = .ok (.aload_n 0, 1) := dk_42 (dk_at dksX2_reads_10 4 rfl rfl)
theorem dX2_reads_239 : decode cX2_reads 239 = .ok (.dup, 1) := dk_89 (dk_at dksX2_reads_10 5 rfl rfl)
theorem dX2_reads_240 : decode cX2_reads 240 = .ok (.getfield 148, 3) := dk_180 0 148 (dk_at dksX2_reads_10 6 rfl rfl)
theorem dX2_reads_243 : decode cX2_reads 243 = .ok (.iconst 1, 1) := dk_4 (dk_at dksX2_reads_10 9 rfl rfl)
theorem dX2_reads_244 : decode cX2_reads 244 = .ok (.iadd, 1) := dk_96 (dk_at dksX2_reads_10 10 rfl rfl)
theorem dX2_reads_245 : decode cX2_reads 245 = .ok (.putfield 148, 3) := dk_181 0 148 (dk_at dksX2_reads_10 11 rfl rfl)
theorem dX2_reads_248 : decode cX2_reads 248 = .ok (.return_, 1) := dk_177 (dk_at dksX2_reads_10 14 rfl rfl)
abbrev cX2_byteAt : ByteArray := prog_21_method_10_code
def yX2_byteAt : MethodName := ⟨RX2, "byteAt", "(I)I"⟩
def dkwX2_byteAt_0 : List UInt8 := [27, 42, 180, 0, 135, 162, 0, 12, 42, 180, 0, 45, 27, 46, 167, 0, 4, 2, 172]
abbrev dktX2_byteAt_0 : List UInt8 := dkwX2_byteAt_0 ++ []
theorem dksX2_byteAt_0 : cX2_byteAt.data.toList.drop 0 = dktX2_byteAt_0 := by decide +kernel
theorem dX2_byteAt_0 : decode cX2_byteAt 0 = .ok (.iload_n 1, 1) := dk_27 (dk_at dksX2_byteAt_0 0 rfl rfl)
theorem dX2_byteAt_1 : decode cX2_byteAt 1 = .ok (.aload_n 0, 1) := dk_42 (dk_at dksX2_byteAt_0 1 rfl rfl)
theorem dX2_byteAt_2 : decode cX2_byteAt 2 = .ok (.getfield 135, 3) := dk_180 0 135 (dk_at dksX2_byteAt_0 2 rfl rfl)
theorem dX2_byteAt_5 : decode cX2_byteAt 5 = .ok (.if_icmp .ge 12, 3) := dk_162 0 12 (dk_at dksX2_byteAt_0 5 rfl rfl)
theorem dX2_byteAt_8 : decode cX2_byteAt 8 = .ok (.aload_n 0, 1) := dk_42 (dk_at dksX2_byteAt_0 8 rfl rfl)
theorem dX2_byteAt_9 : decode cX2_byteAt 9 = .ok (.getfield 45, 3) := dk_180 0 45 (dk_at dksX2_byteAt_0 9 rfl rfl)
theorem dX2_byteAt_12 : decode cX2_byteAt 12 = .ok (.iload_n 1, 1) := dk_27 (dk_at dksX2_byteAt_0 12 rfl rfl)
theorem dX2_byteAt_13 : decode cX2_byteAt 13 = .ok (.iaload, 1) := dk_46 (dk_at dksX2_byteAt_0 13 rfl rfl)
theorem dX2_byteAt_14 : decode cX2_byteAt 14 = .ok (.goto 4, 3) := dk_167 0 4 (dk_at dksX2_byteAt_0 14 rfl rfl)
theorem dX2_byteAt_17 : decode cX2_byteAt 17 = .ok (.iconst (-1), 1) := dk_2 (dk_at dksX2_byteAt_0 17 rfl rfl)
theorem dX2_byteAt_18 : decode cX2_byteAt 18 = .ok (.ireturn, 1) := dk_172 (dk_at dksX2_byteAt_0 18 rfl rfl)
abbrev cX2_requires : ByteArray := prog_21_method_9_code
def yX2_requires : MethodName := ⟨RX2, "requires", "(ZI)V"⟩
def dkwX2_requires_1 : List UInt8 := [177]
abbrev dktX2_requires_1 : List UInt8 := dkwX2_requires_1 ++ []
def dkwX2_requires_0 : List UInt8 := [27, 154, 0, 23, 42, 180, 0, 139, 154, 0, 16, 42, 28, 181, 0, 139, 42, 42, 180, 0, 142, 181, 0, 145]
abbrev dktX2_requires_0 : List UInt8 := dkwX2_requires_0 ++ dktX2_requires_1
theorem dksX2_requires_0 : cX2_requires.data.toList.drop 0 = dktX2_requires_0 := by decide +kernel
theorem dksX2_requires_1 : cX2_requires.data.toList.drop 24 = dktX2_requires_1 := dk_seg dksX2_requires_0 24 rfl rfl
theorem dX2_requires_0 : decode cX2_requires 0 = .ok (.iload_n 1, 1) := dk_27 (dk_at dksX2_requires_0 0 rfl rfl)
theorem dX2_requires_1 : decode cX2_requires 1 = .ok (.ifCond .ne 23, 3) := dk_154 0 23 (dk_at dksX2_requires_0 1 rfl rfl)
theorem dX2_requires_4 : decode cX2_requires 4 = .ok (.aload_n 0, 1) := dk_42 (dk_at dksX2_requires_0 4 rfl rfl)
theorem dX2_requires_5 : decode cX2_requires 5 = .ok (.getfield 139, 3) := dk_180 0 139 (dk_at dksX2_requires_0 5 rfl rfl)
theorem dX2_requires_8 : decode cX2_requires 8 = .ok (.ifCond .ne 16, 3) := dk_154 0 16 (dk_at dksX2_requires_0 8 rfl rfl)
theorem dX2_requires_11 : decode cX2_requires 11 = .ok (.aload_n 0, 1) := dk_42 (dk_at dksX2_requires_0 11 rfl rfl)
theorem dX2_requires_12 : decode cX2_requires 12 = .ok (.iload_n 2, 1) := dk_28 (dk_at dksX2_requires_0 12 rfl rfl)
theorem dX2_requires_13 : decode cX2_requires 13 = .ok (.putfield 139, 3) := dk_181 0 139 (dk_at dksX2_requires_0 13 rfl rfl)
theorem dX2_requires_16 : decode cX2_requires 16 = .ok (.aload_n 0, 1) := dk_42 (dk_at dksX2_requires_0 16 rfl rfl)
theorem dX2_requires_17 : decode cX2_requires 17 = .ok (.aload_n 0, 1) := dk_42 (dk_at dksX2_requires_0 17 rfl rfl)
theorem dX2_requires_18 : decode cX2_requires 18 = .ok (.getfield 142, 3) := dk_180 0 142 (dk_at dksX2_requires_0 18 rfl rfl)
theorem dX2_requires_21 : decode cX2_requires 21 = .ok (.putfield 145, 3) := dk_181 0 145 (dk_at dksX2_requires_0 21 rfl rfl)
theorem dX2_requires_24 : decode cX2_requires 24 = .ok (.return_, 1) := dk_177 (dk_at dksX2_requires_1 0 rfl rfl)
abbrev cX2_isSignByte : ByteArray := prog_21_method_11_code
def yX2_isSignByte : MethodName := ⟨RX2, "isSignByte", "(I)Z"⟩
def dkwX2_isSignByte_3 : List UInt8 := [26, 16, 126, 159, 0, 9, 26, 16, 59, 160, 0, 7, 4, 167, 0, 4, 3, 172]
abbrev dktX2_isSignByte_3 : List UInt8 := dkwX2_isSignByte_3 ++ []
def dkwX2_isSignByte_2 : List UInt8 := [26, 16, 47, 159, 0, 33, 26, 16, 42, 159, 0, 27, 26, 16, 61, 159, 0, 21, 26, 16, 62, 159, 0, 15]
abbrev dktX2_isSignByte_2 : List UInt8 := dkwX2_isSignByte_2 ++ dktX2_isSignByte_3
def dkwX2_isSignByte_1 : List UInt8 := [26, 16, 41, 159, 0, 57, 26, 16, 123, 159, 0, 51, 26, 16, 125, 159, 0, 45, 26, 16, 44, 159, 0, 39]
abbrev dktX2_isSignByte_1 : List UInt8 := dkwX2_isSignByte_1 ++ dktX2_isSignByte_2
def dkwX2_isSignByte_0 : List UInt8 := [26, 16, 33, 159, 0, 81, 26, 16, 38, 159, 0, 75, 26, 16, 124, 159, 0, 69, 26, 16, 40, 159, 0, 63]
abbrev dktX2_isSignByte_0 : List UInt8 := dkwX2_isSignByte_0 ++ dktX2_isSignByte_1
theorem dksX2_isSignByte_0 : cX2_isSignByte.data.toList.drop 0 = dktX2_isSignByte_0 := by decide +kernel
theorem dksX2_isSignByte_1 : cX2_isSignByte.data.toList.drop 24 = dktX2_isSignByte_1 := dk_seg dksX2_isSignByte_0 24 rfl rfl
theorem dksX2_isSignByte_2 : cX2_isSignByte.data.toList.drop 48 = dktX2_isSignByte_2 := dk_seg dksX2_isSignByte_1 24 rfl rfl
theorem dksX2_isSignByte_3 : cX2_isSignByte.data.toList.drop 72 = dktX2_isSignByte_3 := dk_seg dksX2_isSignByte_2 24 rfl rfl
theorem dX2_isSignByte_0 : decode cX2_isSignByte 0 = .ok (.iload_n 0, 1) := dk_26 (dk_at dksX2_isSignByte_0 0 rfl rfl)
theorem dX2_isSignByte_1 : decode cX2_isSignByte 1 = .ok (.bipush 33, 2) := dk_16 33 (dk_at dksX2_isSignByte_0 1 rfl rfl)
theorem dX2_isSignByte_3 : decode cX2_isSignByte 3 = .ok (.if_icmp .eq 81, 3) := dk_159 0 81 (dk_at dksX2_isSignByte_0 3 rfl rfl)
theorem dX2_isSignByte_6 : decode cX2_isSignByte 6 = .ok (.iload_n 0, 1) := dk_26 (dk_at dksX2_isSignByte_0 6 rfl rfl)
theorem dX2_isSignByte_7 : decode cX2_isSignByte 7 = .ok (.bipush 38, 2) := dk_16 38 (dk_at dksX2_isSignByte_0 7 rfl rfl)
theorem dX2_isSignByte_9 : decode cX2_isSignByte 9 = .ok (.if_icmp .eq 75, 3) := dk_159 0 75 (dk_at dksX2_isSignByte_0 9 rfl rfl)
theorem dX2_isSignByte_12 : decode cX2_isSignByte 12 = .ok (.iload_n 0, 1) := dk_26 (dk_at dksX2_isSignByte_0 12 rfl rfl)
theorem dX2_isSignByte_13 : decode cX2_isSignByte 13 = .ok (.bipush 124, 2) := dk_16 124 (dk_at dksX2_isSignByte_0 13 rfl rfl)
theorem dX2_isSignByte_15 : decode cX2_isSignByte 15 = .ok (.if_icmp .eq 69, 3) := dk_159 0 69 (dk_at dksX2_isSignByte_0 15 rfl rfl)
theorem dX2_isSignByte_18 : decode cX2_isSignByte 18 = .ok (.iload_n 0, 1) := dk_26 (dk_at dksX2_isSignByte_0 18 rfl rfl)
theorem dX2_isSignByte_19 : decode cX2_isSignByte 19 = .ok (.bipush 40, 2) := dk_16 40 (dk_at dksX2_isSignByte_0 19 rfl rfl)
theorem dX2_isSignByte_21 : decode cX2_isSignByte 21 = .ok (.if_icmp .eq 63, 3) := dk_159 0 63 (dk_at dksX2_isSignByte_0 21 rfl rfl)
theorem dX2_isSignByte_24 : decode cX2_isSignByte 24 = .ok (.iload_n 0, 1) := dk_26 (dk_at dksX2_isSignByte_1 0 rfl rfl)
theorem dX2_isSignByte_25 : decode cX2_isSignByte 25 = .ok (.bipush 41, 2) := dk_16 41 (dk_at dksX2_isSignByte_1 1 rfl rfl)
theorem dX2_isSignByte_27 : decode cX2_isSignByte 27 = .ok (.if_icmp .eq 57, 3) := dk_159 0 57 (dk_at dksX2_isSignByte_1 3 rfl rfl)
theorem dX2_isSignByte_30 : decode cX2_isSignByte 30 = .ok (.iload_n 0, 1) := dk_26 (dk_at dksX2_isSignByte_1 6 rfl rfl)
theorem dX2_isSignByte_31 : decode cX2_isSignByte 31 = .ok (.bipush 123, 2) := dk_16 123 (dk_at dksX2_isSignByte_1 7 rfl rfl)
theorem dX2_isSignByte_33 : decode cX2_isSignByte 33 = .ok (.if_icmp .eq 51, 3) := dk_159 0 51 (dk_at dksX2_isSignByte_1 9 rfl rfl)
theorem dX2_isSignByte_36 : decode cX2_isSignByte 36 = .ok (.iload_n 0, 1) := dk_26 (dk_at dksX2_isSignByte_1 12 rfl rfl)
theorem dX2_isSignByte_37 : decode cX2_isSignByte 37 = .ok (.bipush 125, 2) := dk_16 125 (dk_at dksX2_isSignByte_1 13 rfl rfl)
theorem dX2_isSignByte_39 : decode cX2_isSignByte 39 = .ok (.if_icmp .eq 45, 3) := dk_159 0 45 (dk_at dksX2_isSignByte_1 15 rfl rfl)
theorem dX2_isSignByte_42 : decode cX2_isSignByte 42 = .ok (.iload_n 0, 1) := dk_26 (dk_at dksX2_isSignByte_1 18 rfl rfl)
theorem dX2_isSignByte_43 : decode cX2_isSignByte 43 = .ok (.bipush 44, 2) := dk_16 44 (dk_at dksX2_isSignByte_1 19 rfl rfl)
theorem dX2_isSignByte_45 : decode cX2_isSignByte 45 = .ok (.if_icmp .eq 39, 3) := dk_159 0 39 (dk_at dksX2_isSignByte_1 21 rfl rfl)
theorem dX2_isSignByte_48 : decode cX2_isSignByte 48 = .ok (.iload_n 0, 1) := dk_26 (dk_at dksX2_isSignByte_2 0 rfl rfl)
theorem dX2_isSignByte_49 : decode cX2_isSignByte 49 = .ok (.bipush 47, 2) := dk_16 47 (dk_at dksX2_isSignByte_2 1 rfl rfl)
theorem dX2_isSignByte_51 : decode cX2_isSignByte 51 = .ok (.if_icmp .eq 33, 3) := dk_159 0 33 (dk_at dksX2_isSignByte_2 3 rfl rfl)
theorem dX2_isSignByte_54 : decode cX2_isSignByte 54 = .ok (.iload_n 0, 1) := dk_26 (dk_at dksX2_isSignByte_2 6 rfl rfl)
theorem dX2_isSignByte_55 : decode cX2_isSignByte 55 = .ok (.bipush 42, 2) := dk_16 42 (dk_at dksX2_isSignByte_2 7 rfl rfl)
theorem dX2_isSignByte_57 : decode cX2_isSignByte 57 = .ok (.if_icmp .eq 27, 3) := dk_159 0 27 (dk_at dksX2_isSignByte_2 9 rfl rfl)
theorem dX2_isSignByte_60 : decode cX2_isSignByte 60 = .ok (.iload_n 0, 1) := dk_26 (dk_at dksX2_isSignByte_2 12 rfl rfl)
theorem dX2_isSignByte_61 : decode cX2_isSignByte 61 = .ok (.bipush 61, 2) := dk_16 61 (dk_at dksX2_isSignByte_2 13 rfl rfl)
theorem dX2_isSignByte_63 : decode cX2_isSignByte 63 = .ok (.if_icmp .eq 21, 3) := dk_159 0 21 (dk_at dksX2_isSignByte_2 15 rfl rfl)
theorem dX2_isSignByte_66 : decode cX2_isSignByte 66 = .ok (.iload_n 0, 1) := dk_26 (dk_at dksX2_isSignByte_2 18 rfl rfl)
theorem dX2_isSignByte_67 : decode cX2_isSignByte 67 = .ok (.bipush 62, 2) := dk_16 62 (dk_at dksX2_isSignByte_2 19 rfl rfl)
theorem dX2_isSignByte_69 : decode cX2_isSignByte 69 = .ok (.if_icmp .eq 15, 3) := dk_159 0 15 (dk_at dksX2_isSignByte_2 21 rfl rfl)
theorem dX2_isSignByte_72 : decode cX2_isSignByte 72 = .ok (.iload_n 0, 1) := dk_26 (dk_at dksX2_isSignByte_3 0 rfl rfl)
theorem dX2_isSignByte_73 : decode cX2_isSignByte 73 = .ok (.bipush 126, 2) := dk_16 126 (dk_at dksX2_isSignByte_3 1 rfl rfl)
theorem dX2_isSignByte_75 : decode cX2_isSignByte 75 = .ok (.if_icmp .eq 9, 3) := dk_159 0 9 (dk_at dksX2_isSignByte_3 3 rfl rfl)
theorem dX2_isSignByte_78 : decode cX2_isSignByte 78 = .ok (.iload_n 0, 1) := dk_26 (dk_at dksX2_isSignByte_3 6 rfl rfl)
theorem dX2_isSignByte_79 : decode cX2_isSignByte 79 = .ok (.bipush 59, 2) := dk_16 59 (dk_at dksX2_isSignByte_3 7 rfl rfl)
theorem dX2_isSignByte_81 : decode cX2_isSignByte 81 = .ok (.if_icmp .ne 7, 3) := dk_160 0 7 (dk_at dksX2_isSignByte_3 9 rfl rfl)
theorem dX2_isSignByte_84 : decode cX2_isSignByte 84 = .ok (.iconst 1, 1) := dk_4 (dk_at dksX2_isSignByte_3 12 rfl rfl)
theorem dX2_isSignByte_85 : decode cX2_isSignByte 85 = .ok (.goto 4, 3) := dk_167 0 4 (dk_at dksX2_isSignByte_3 13 rfl rfl)
theorem dX2_isSignByte_88 : decode cX2_isSignByte 88 = .ok (.iconst 0, 1) := dk_3 (dk_at dksX2_isSignByte_3 16 rfl rfl)
theorem dX2_isSignByte_89 : decode cX2_isSignByte 89 = .ok (.ireturn, 1) := dk_172 (dk_at dksX2_isSignByte_3 17 rfl rfl)
abbrev cX2_readPromise : ByteArray := prog_21_method_38_code
def yX2_readPromise : MethodName := ⟨RX2, "readPromise", "(I)V"⟩
def dkwX2_readPromise_12 : List UInt8 := [182, 0, 165, 42, 182, 0, 177, 177]
abbrev dktX2_readPromise_12 : List UInt8 := dkwX2_readPromise_12 ++ []
def dkwX2_readPromise_11 : List UInt8 := [16, 45, 5, 28, 104, 4, 96, 104, 5, 96, 46, 16, 40, 163, 0, 7, 4, 167, 0, 4, 3, 16, 6]
abbrev dktX2_readPromise_11 : List UInt8 := dkwX2_readPromise_11 ++ dktX2_readPromise_12
def dkwX2_readPromise_10 : List UInt8 := [182, 0, 165, 42, 42, 180, 0, 13, 16, 90, 28, 104, 5, 96, 46, 16, 40, 163, 0, 27, 42, 180, 0, 13]
abbrev dktX2_readPromise_10 : List UInt8 := dkwX2_readPromise_10 ++ dktX2_readPromise_11
def dkwX2_readPromise_9 : List UInt8 := [182, 0, 188, 5, 182, 0, 165, 42, 29, 154, 0, 12, 21, 4, 154, 0, 7, 4, 167, 0, 4, 3, 8]
abbrev dktX2_readPromise_9 : List UInt8 := dkwX2_readPromise_9 ++ dktX2_readPromise_10
def dkwX2_readPromise_8 : List UInt8 := [180, 0, 63, 21, 5, 47, 80, 132, 5, 1, 167, 255, 229, 42, 180, 0, 139, 154, 0, 80, 42, 42, 16, 59]
abbrev dktX2_readPromise_8 : List UInt8 := dkwX2_readPromise_8 ++ dktX2_readPromise_9
def dkwX2_readPromise_7 : List UInt8 := [4, 182, 0, 250, 3, 54, 5, 21, 5, 7, 162, 0, 27, 42, 180, 0, 32, 7, 28, 104, 21, 5, 96, 42]
abbrev dktX2_readPromise_7 : List UInt8 := dkwX2_readPromise_7 ++ dktX2_readPromise_8
def dkwX2_readPromise_6 : List UInt8 := [42, 16, 126, 182, 0, 188, 184, 0, 194, 79, 42, 16, 126, 182, 0, 188, 153, 0, 45, 42, 182, 0, 177, 42]
abbrev dktX2_readPromise_6 : List UInt8 := dkwX2_readPromise_6 ++ dktX2_readPromise_7
def dkwX2_readPromise_5 : List UInt8 := [28, 104, 4, 96, 182, 1, 33, 42, 180, 0, 90, 4, 51, 54, 4, 42, 180, 0, 26, 5, 28, 104, 4, 96]
abbrev dktX2_readPromise_5 : List UInt8 := dkwX2_readPromise_5 ++ dktX2_readPromise_6
def dkwX2_readPromise_4 : List UInt8 := [42, 16, 62, 182, 0, 188, 153, 0, 7, 4, 167, 0, 4, 3, 5, 182, 0, 165, 42, 182, 0, 177, 42, 5]
abbrev dktX2_readPromise_4 : List UInt8 := dkwX2_readPromise_4 ++ dktX2_readPromise_5
def dkwX2_readPromise_3 : List UInt8 := [182, 0, 188, 184, 0, 194, 79, 42, 180, 0, 139, 154, 0, 31, 42, 42, 16, 61, 182, 0, 188, 154, 0, 12]
abbrev dktX2_readPromise_3 : List UInt8 := dkwX2_readPromise_3 ++ dktX2_readPromise_4
def dkwX2_readPromise_2 : List UInt8 := [42, 5, 28, 104, 182, 1, 33, 42, 180, 0, 90, 4, 51, 62, 42, 180, 0, 26, 5, 28, 104, 42, 16, 62]
abbrev dktX2_readPromise_2 : List UInt8 := dkwX2_readPromise_2 ++ dktX2_readPromise_3
def dkwX2_readPromise_1 : List UInt8 := [27, 7, 162, 0, 7, 27, 167, 0, 4, 3, 61, 42, 3, 181, 0, 180, 42, 180, 0, 139, 158, 0, 4, 177]
abbrev dktX2_readPromise_1 : List UInt8 := dkwX2_readPromise_1 ++ dktX2_readPromise_2
def dkwX2_readPromise_0 : List UInt8 := [42, 42, 182, 1, 29, 5, 182, 0, 165, 42, 27, 7, 162, 0, 7, 4, 167, 0, 4, 3, 7, 182, 0, 165]
abbrev dktX2_readPromise_0 : List UInt8 := dkwX2_readPromise_0 ++ dktX2_readPromise_1
theorem dksX2_readPromise_0 : cX2_readPromise.data.toList.drop 0 = dktX2_readPromise_0 := by decide +kernel
theorem dksX2_readPromise_1 : cX2_readPromise.data.toList.drop 24 = dktX2_readPromise_1 := dk_seg dksX2_readPromise_0 24 rfl rfl
theorem dksX2_readPromise_2 : cX2_readPromise.data.toList.drop 48 = dktX2_readPromise_2 := dk_seg dksX2_readPromise_1 24 rfl rfl
theorem dksX2_readPromise_3 : cX2_readPromise.data.toList.drop 72 = dktX2_readPromise_3 := dk_seg dksX2_readPromise_2 24 rfl rfl
theorem dksX2_readPromise_4 : cX2_readPromise.data.toList.drop 96 = dktX2_readPromise_4 := dk_seg dksX2_readPromise_3 24 rfl rfl
theorem dksX2_readPromise_5 : cX2_readPromise.data.toList.drop 120 = dktX2_readPromise_5 := dk_seg dksX2_readPromise_4 24 rfl rfl
theorem dksX2_readPromise_6 : cX2_readPromise.data.toList.drop 144 = dktX2_readPromise_6 := dk_seg dksX2_readPromise_5 24 rfl rfl
theorem dksX2_readPromise_7 : cX2_readPromise.data.toList.drop 168 = dktX2_readPromise_7 := dk_seg dksX2_readPromise_6 24 rfl rfl
theorem dksX2_readPromise_8 : cX2_readPromise.data.toList.drop 192 = dktX2_readPromise_8 := dk_seg dksX2_readPromise_7 24 rfl rfl
theorem dksX2_readPromise_9 : cX2_readPromise.data.toList.drop 216 = dktX2_readPromise_9 := dk_seg dksX2_readPromise_8 24 rfl rfl
theorem dksX2_readPromise_10 : cX2_readPromise.data.toList.drop 239 = dktX2_readPromise_10 := dk_seg dksX2_readPromise_9 23 rfl rfl
theorem dksX2_readPromise_11 : cX2_readPromise.data.toList.drop 263 = dktX2_readPromise_11 := dk_seg dksX2_readPromise_10 24 rfl rfl
theorem dksX2_readPromise_12 : cX2_readPromise.data.toList.drop 286 = dktX2_readPromise_12 := dk_seg dksX2_readPromise_11 23 rfl rfl
theorem dX2_readPromise_0 : decode cX2_readPromise 0 = .ok (.aload_n 0, 1) := dk_42 (dk_at dksX2_readPromise_0 0 rfl rfl)
theorem dX2_readPromise_1 : decode cX2_readPromise 1 = .ok (.aload_n 0, 1) := dk_42 (dk_at dksX2_readPromise_0 1 rfl rfl)
theorem dX2_readPromise_2 : decode cX2_readPromise 2 = .ok (.invokevirtual 285, 3) := dk_182 1 29 (dk_at dksX2_readPromise_0 2 rfl rfl)
theorem dX2_readPromise_5 : decode cX2_readPromise 5 = .ok (.iconst 2, 1) := dk_5 (dk_at dksX2_readPromise_0 5 rfl rfl)
theorem dX2_readPromise_6 : decode cX2_readPromise 6 = .ok (.invokevirtual 165, 3) := dk_182 0 165 (dk_at dksX2_readPromise_0 6 rfl rfl)
theorem dX2_readPromise_9 : decode cX2_readPromise 9 = .ok (.aload_n 0, 1) := dk_42 (dk_at dksX2_readPromise_0 9 rfl rfl)
theorem dX2_readPromise_10 : decode cX2_readPromise 10 = .ok (.iload_n 1, 1) := dk_27 (dk_at dksX2_readPromise_0 10 rfl rfl)
theorem dX2_readPromise_11 : decode cX2_readPromise 11 = .ok (.iconst 4, 1) := dk_7 (dk_at dksX2_readPromise_0 11 rfl rfl)
theorem dX2_readPromise_12 : decode cX2_readPromise 12 = .ok (.if_icmp .ge 7, 3) := dk_162 0 7 (dk_at dksX2_readPromise_0 12 rfl rfl)
theorem dX2_readPromise_15 : decode cX2_readPromise 15 = .ok (.iconst 1, 1) := dk_4 (dk_at dksX2_readPromise_0 15 rfl rfl)
theorem dX2_readPromise_16 : decode cX2_readPromise 16 = .ok (.goto 4, 3) := dk_167 0 4 (dk_at dksX2_readPromise_0 16 rfl rfl)
theorem dX2_readPromise_19 : decode cX2_readPromise 19 = .ok (.iconst 0, 1) := dk_3 (dk_at dksX2_readPromise_0 19 rfl rfl)
theorem dX2_readPromise_20 : decode cX2_readPromise 20 = .ok (.iconst 4, 1) := dk_7 (dk_at dksX2_readPromise_0 20 rfl rfl)
theorem dX2_readPromise_21 : decode cX2_readPromise 21 = .ok (.invokevirtual 165, 3) := dk_182 0 165 (dk_at dksX2_readPromise_0 21 rfl rfl)
theorem dX2_readPromise_24 : decode cX2_readPromise 24 = .ok (.iload_n 1, 1) := dk_27 (dk_at dksX2_readPromise_1 0 rfl rfl)
theorem dX2_readPromise_25 : decode cX2_readPromise 25 = .ok (.iconst 4, 1) := dk_7 (dk_at dksX2_readPromise_1 1 rfl rfl)
theorem dX2_readPromise_26 : decode cX2_readPromise 26 = .ok (.if_icmp .ge 7, 3) := dk_162 0 7 (dk_at dksX2_readPromise_1 2 rfl rfl)
theorem dX2_readPromise_29 : decode cX2_readPromise 29 = .ok (.iload_n 1, 1) := dk_27 (dk_at dksX2_readPromise_1 5 rfl rfl)
theorem dX2_readPromise_30 : decode cX2_readPromise 30 = .ok (.goto 4, 3) := dk_167 0 4 (dk_at dksX2_readPromise_1 6 rfl rfl)
theorem dX2_readPromise_33 : decode cX2_readPromise 33 = .ok (.iconst 0, 1) := dk_3 (dk_at dksX2_readPromise_1 9 rfl rfl)
theorem dX2_readPromise_34 : decode cX2_readPromise 34 = .ok (.istore_n 2, 1) := dk_61 (dk_at dksX2_readPromise_1 10 rfl rfl)
theorem dX2_readPromise_35 : decode cX2_readPromise 35 = .ok (.aload_n 0, 1) := dk_42 (dk_at dksX2_readPromise_1 11 rfl rfl)
theorem dX2_readPromise_36 : decode cX2_readPromise 36 = .ok (.iconst 0, 1) := dk_3 (dk_at dksX2_readPromise_1 12 rfl rfl)
theorem dX2_readPromise_37 : decode cX2_readPromise 37 = .ok (.putfield 180, 3) := dk_181 0 180 (dk_at dksX2_readPromise_1 13 rfl rfl)
theorem dX2_readPromise_40 : decode cX2_readPromise 40 = .ok (.aload_n 0, 1) := dk_42 (dk_at dksX2_readPromise_1 16 rfl rfl)
theorem dX2_readPromise_41 : decode cX2_readPromise 41 = .ok (.getfield 139, 3) := dk_180 0 139 (dk_at dksX2_readPromise_1 17 rfl rfl)
theorem dX2_readPromise_44 : decode cX2_readPromise 44 = .ok (.ifCond .le 4, 3) := dk_158 0 4 (dk_at dksX2_readPromise_1 20 rfl rfl)
theorem dX2_readPromise_47 : decode cX2_readPromise 47 = .ok (.return_, 1) := dk_177 (dk_at dksX2_readPromise_1 23 rfl rfl)
theorem dX2_readPromise_48 : decode cX2_readPromise 48 = .ok (.aload_n 0, 1) := dk_42 (dk_at dksX2_readPromise_2 0 rfl rfl)
theorem dX2_readPromise_49 : decode cX2_readPromise 49 = .ok (.iconst 2, 1) := dk_5 (dk_at dksX2_readPromise_2 1 rfl rfl)
theorem dX2_readPromise_50 : decode cX2_readPromise 50 = .ok (.iload_n 2, 1) := dk_28 (dk_at dksX2_readPromise_2 2 rfl rfl)
theorem dX2_readPromise_51 : decode cX2_readPromise 51 = .ok (.imul, 1) := dk_104 (dk_at dksX2_readPromise_2 3 rfl rfl)
theorem dX2_readPromise_52 : decode cX2_readPromise 52 = .ok (.invokevirtual 289, 3) := dk_182 1 33 (dk_at dksX2_readPromise_2 4 rfl rfl)
theorem dX2_readPromise_55 : decode cX2_readPromise 55 = .ok (.aload_n 0, 1) := dk_42 (dk_at dksX2_readPromise_2 7 rfl rfl)
theorem dX2_readPromise_56 : decode cX2_readPromise 56 = .ok (.getfield 90, 3) := dk_180 0 90 (dk_at dksX2_readPromise_2 8 rfl rfl)
theorem dX2_readPromise_59 : decode cX2_readPromise 59 = .ok (.iconst 1, 1) := dk_4 (dk_at dksX2_readPromise_2 11 rfl rfl)
theorem dX2_readPromise_60 : decode cX2_readPromise 60 = .ok (.baload, 1) := dk_51 (dk_at dksX2_readPromise_2 12 rfl rfl)
theorem dX2_readPromise_61 : decode cX2_readPromise 61 = .ok (.istore_n 3, 1) := dk_62 (dk_at dksX2_readPromise_2 13 rfl rfl)
theorem dX2_readPromise_62 : decode cX2_readPromise 62 = .ok (.aload_n 0, 1) := dk_42 (dk_at dksX2_readPromise_2 14 rfl rfl)
theorem dX2_readPromise_63 : decode cX2_readPromise 63 = .ok (.getfield 26, 3) := dk_180 0 26 (dk_at dksX2_readPromise_2 15 rfl rfl)
theorem dX2_readPromise_66 : decode cX2_readPromise 66 = .ok (.iconst 2, 1) := dk_5 (dk_at dksX2_readPromise_2 18 rfl rfl)
theorem dX2_readPromise_67 : decode cX2_readPromise 67 = .ok (.iload_n 2, 1) := dk_28 (dk_at dksX2_readPromise_2 19 rfl rfl)
theorem dX2_readPromise_68 : decode cX2_readPromise 68 = .ok (.imul, 1) := dk_104 (dk_at dksX2_readPromise_2 20 rfl rfl)
theorem dX2_readPromise_69 : decode cX2_readPromise 69 = .ok (.aload_n 0, 1) := dk_42 (dk_at dksX2_readPromise_2 21 rfl rfl)
theorem dX2_readPromise_70 : decode cX2_readPromise 70 = .ok (.bipush 62, 2) := dk_16 62 (dk_at dksX2_readPromise_2 22 rfl rfl)
theorem dX2_readPromise_72 : decode cX2_readPromise 72 = .ok (.invokevirtual 188, 3) := dk_182 0 188 (dk_at dksX2_readPromise_3 0 rfl rfl)
theorem dX2_readPromise_75 : decode cX2_readPromise 75 = .ok (.invokestatic 194, 3) := dk_184 0 194 (dk_at dksX2_readPromise_3 3 rfl rfl)
theorem dX2_readPromise_78 : decode cX2_readPromise 78 = .ok (.iastore, 1) := dk_79 (dk_at dksX2_readPromise_3 6 rfl rfl)
theorem dX2_readPromise_79 : decode cX2_readPromise 79 = .ok (.aload_n 0, 1) := dk_42 (dk_at dksX2_readPromise_3 7 rfl rfl)
theorem dX2_readPromise_80 : decode cX2_readPromise 80 = .ok (.getfield 139, 3) := dk_180 0 139 (dk_at dksX2_readPromise_3 8 rfl rfl)
theorem dX2_readPromise_83 : decode cX2_readPromise 83 = .ok (.ifCond .ne 31, 3) := dk_154 0 31 (dk_at dksX2_readPromise_3 11 rfl rfl)
theorem dX2_readPromise_86 : decode cX2_readPromise 86 = .ok (.aload_n 0, 1) := dk_42 (dk_at dksX2_readPromise_3 14 rfl rfl)
theorem dX2_readPromise_87 : decode cX2_readPromise 87 = .ok (.aload_n 0, 1) := dk_42 (dk_at dksX2_readPromise_3 15 rfl rfl)
theorem dX2_readPromise_88 : decode cX2_readPromise 88 = .ok (.bipush 61, 2) := dk_16 61 (dk_at dksX2_readPromise_3 16 rfl rfl)
theorem dX2_readPromise_90 : decode cX2_readPromise 90 = .ok (.invokevirtual 188, 3) := dk_182 0 188 (dk_at dksX2_readPromise_3 18 rfl rfl)
theorem dX2_readPromise_93 : decode cX2_readPromise 93 = .ok (.ifCond .ne 12, 3) := dk_154 0 12 (dk_at dksX2_readPromise_3 21 rfl rfl)
theorem dX2_readPromise_96 : decode cX2_readPromise 96 = .ok (.aload_n 0, 1) := dk_42 (dk_at dksX2_readPromise_4 0 rfl rfl)
theorem dX2_readPromise_97 : decode cX2_readPromise 97 = .ok (.bipush 62, 2) := dk_16 62 (dk_at dksX2_readPromise_4 1 rfl rfl)
theorem dX2_readPromise_99 : decode cX2_readPromise 99 = .ok (.invokevirtual 188, 3) := dk_182 0 188 (dk_at dksX2_readPromise_4 3 rfl rfl)
theorem dX2_readPromise_102 : decode cX2_readPromise 102 = .ok (.ifCond .eq 7, 3) := dk_153 0 7 (dk_at dksX2_readPromise_4 6 rfl rfl)
theorem dX2_readPromise_105 : decode cX2_readPromise 105 = .ok (.iconst 1, 1) := dk_4 (dk_at dksX2_readPromise_4 9 rfl rfl)
theorem dX2_readPromise_106 : decode cX2_readPromise 106 = .ok (.goto 4, 3) := dk_167 0 4 (dk_at dksX2_readPromise_4 10 rfl rfl)
theorem dX2_readPromise_109 : decode cX2_readPromise 109 = .ok (.iconst 0, 1) := dk_3 (dk_at dksX2_readPromise_4 13 rfl rfl)
theorem dX2_readPromise_110 : decode cX2_readPromise 110 = .ok (.iconst 2, 1) := dk_5 (dk_at dksX2_readPromise_4 14 rfl rfl)
theorem dX2_readPromise_111 : decode cX2_readPromise 111 = .ok (.invokevirtual 165, 3) := dk_182 0 165 (dk_at dksX2_readPromise_4 15 rfl rfl)
theorem dX2_readPromise_114 : decode cX2_readPromise 114 = .ok (.aload_n 0, 1) := dk_42 (dk_at dksX2_readPromise_4 18 rfl rfl)
theorem dX2_readPromise_115 : decode cX2_readPromise 115 = .ok (.invokevirtual 177, 3) := dk_182 0 177 (dk_at dksX2_readPromise_4 19 rfl rfl)
theorem dX2_readPromise_118 : decode cX2_readPromise 118 = .ok (.aload_n 0, 1) := dk_42 (dk_at dksX2_readPromise_4 22 rfl rfl)
theorem dX2_readPromise_119 : decode cX2_readPromise 119 = .ok (.iconst 2, 1) := dk_5 (dk_at dksX2_readPromise_4 23 rfl rfl)
theorem dX2_readPromise_120 : decode cX2_readPromise 120 = .ok (.iload_n 2, 1) := dk_28 (dk_at dksX2_readPromise_5 0 rfl rfl)
theorem dX2_readPromise_121 : decode cX2_readPromise 121 = .ok (.imul, 1) := dk_104 (dk_at dksX2_readPromise_5 1 rfl rfl)
theorem dX2_readPromise_122 : decode cX2_readPromise 122 = .ok (.iconst 1, 1) := dk_4 (dk_at dksX2_readPromise_5 2 rfl rfl)
theorem dX2_readPromise_123 : decode cX2_readPromise 123 = .ok (.iadd, 1) := dk_96 (dk_at dksX2_readPromise_5 3 rfl rfl)
theorem dX2_readPromise_124 : decode cX2_readPromise 124 = .ok (.invokevirtual 289, 3) := dk_182 1 33 (dk_at dksX2_readPromise_5 4 rfl rfl)
theorem dX2_readPromise_127 : decode cX2_readPromise 127 = .ok (.aload_n 0, 1) := dk_42 (dk_at dksX2_readPromise_5 7 rfl rfl)
theorem dX2_readPromise_128 : decode cX2_readPromise 128 = .ok (.getfield 90, 3) := dk_180 0 90 (dk_at dksX2_readPromise_5 8 rfl rfl)
theorem dX2_readPromise_131 : decode cX2_readPromise 131 = .ok (.iconst 1, 1) := dk_4 (dk_at dksX2_readPromise_5 11 rfl rfl)
theorem dX2_readPromise_132 : decode cX2_readPromise 132 = .ok (.baload, 1) := dk_51 (dk_at dksX2_readPromise_5 12 rfl rfl)
theorem dX2_readPromise_133 : decode cX2_readPromise 133 = .ok (.istore 4, 2) := dk_54 4 (dk_at dksX2_readPromise_5 13 rfl rfl)
theorem dX2_readPromise_135 : decode cX2_readPromise 135 = .ok (.aload_n 0, 1) := dk_42 (dk_at dksX2_readPromise_5 15 rfl rfl)
theorem dX2_readPromise_136 : decode cX2_readPromise 136 = .ok (.getfield 26, 3) := dk_180 0 26 (dk_at dksX2_readPromise_5 16 rfl rfl)
theorem dX2_readPromise_139 : decode cX2_readPromise 139 = .ok (.iconst 2, 1) := dk_5 (dk_at dksX2_readPromise_5 19 rfl rfl)
theorem dX2_readPromise_140 : decode cX2_readPromise 140 = .ok (.iload_n 2, 1) := dk_28 (dk_at dksX2_readPromise_5 20 rfl rfl)
theorem dX2_readPromise_141 : decode cX2_readPromise 141 = .ok (.imul, 1) := dk_104 (dk_at dksX2_readPromise_5 21 rfl rfl)
theorem dX2_readPromise_142 : decode cX2_readPromise 142 = .ok (.iconst 1, 1) := dk_4 (dk_at dksX2_readPromise_5 22 rfl rfl)
theorem dX2_readPromise_143 : decode cX2_readPromise 143 = .ok (.iadd, 1) := dk_96 (dk_at dksX2_readPromise_5 23 rfl rfl)
theorem dX2_readPromise_144 : decode cX2_readPromise 144 = .ok (.aload_n 0, 1) := dk_42 (dk_at dksX2_readPromise_6 0 rfl rfl)
theorem dX2_readPromise_145 : decode cX2_readPromise 145 = .ok (.bipush 126, 2) := dk_16 126 (dk_at dksX2_readPromise_6 1 rfl rfl)
theorem dX2_readPromise_147 : decode cX2_readPromise 147 = .ok (.invokevirtual 188, 3) := dk_182 0 188 (dk_at dksX2_readPromise_6 3 rfl rfl)
theorem dX2_readPromise_150 : decode cX2_readPromise 150 = .ok (.invokestatic 194, 3) := dk_184 0 194 (dk_at dksX2_readPromise_6 6 rfl rfl)
theorem dX2_readPromise_153 : decode cX2_readPromise 153 = .ok (.iastore, 1) := dk_79 (dk_at dksX2_readPromise_6 9 rfl rfl)
theorem dX2_readPromise_154 : decode cX2_readPromise 154 = .ok (.aload_n 0, 1) := dk_42 (dk_at dksX2_readPromise_6 10 rfl rfl)
theorem dX2_readPromise_155 : decode cX2_readPromise 155 = .ok (.bipush 126, 2) := dk_16 126 (dk_at dksX2_readPromise_6 11 rfl rfl)
theorem dX2_readPromise_157 : decode cX2_readPromise 157 = .ok (.invokevirtual 188, 3) := dk_182 0 188 (dk_at dksX2_readPromise_6 13 rfl rfl)
theorem dX2_readPromise_160 : decode cX2_readPromise 160 = .ok (.ifCond .eq 45, 3) := dk_153 0 45 (dk_at dksX2_readPromise_6 16 rfl rfl)
theorem dX2_readPromise_163 : decode cX2_readPromise 163 = .ok (.aload_n 0, 1) := dk_42 (dk_at dksX2_readPromise_6 19 rfl rfl)
theorem dX2_readPromise_164 : decode cX2_readPromise 164 = .ok (.invokevirtual 177, 3) := dk_182 0 177 (dk_at dksX2_readPromise_6 20 rfl rfl)
theorem dX2_readPromise_167 : decode cX2_readPromise 167 = .ok (.aload_n 0, 1) := dk_42 (dk_at dksX2_readPromise_6 23 rfl rfl)
theorem dX2_readPromise_168 : decode cX2_readPromise 168 = .ok (.iconst 1, 1) := dk_4 (dk_at dksX2_readPromise_7 0 rfl rfl)
theorem dX2_readPromise_169 : decode cX2_readPromise 169 = .ok (.invokevirtual 250, 3) := dk_182 0 250 (dk_at dksX2_readPromise_7 1 rfl rfl)
theorem dX2_readPromise_172 : decode cX2_readPromise 172 = .ok (.iconst 0, 1) := dk_3 (dk_at dksX2_readPromise_7 4 rfl rfl)
theorem dX2_readPromise_173 : decode cX2_readPromise 173 = .ok (.istore 5, 2) := dk_54 5 (dk_at dksX2_readPromise_7 5 rfl rfl)
theorem dX2_readPromise_175 : decode cX2_readPromise 175 = .ok (.iload 5, 2) := dk_21 5 (dk_at dksX2_readPromise_7 7 rfl rfl)
theorem dX2_readPromise_177 : decode cX2_readPromise 177 = .ok (.iconst 4, 1) := dk_7 (dk_at dksX2_readPromise_7 9 rfl rfl)
theorem dX2_readPromise_178 : decode cX2_readPromise 178 = .ok (.if_icmp .ge 27, 3) := dk_162 0 27 (dk_at dksX2_readPromise_7 10 rfl rfl)
theorem dX2_readPromise_181 : decode cX2_readPromise 181 = .ok (.aload_n 0, 1) := dk_42 (dk_at dksX2_readPromise_7 13 rfl rfl)
theorem dX2_readPromise_182 : decode cX2_readPromise 182 = .ok (.getfield 32, 3) := dk_180 0 32 (dk_at dksX2_readPromise_7 14 rfl rfl)
theorem dX2_readPromise_185 : decode cX2_readPromise 185 = .ok (.iconst 4, 1) := dk_7 (dk_at dksX2_readPromise_7 17 rfl rfl)
theorem dX2_readPromise_186 : decode cX2_readPromise 186 = .ok (.iload_n 2, 1) := dk_28 (dk_at dksX2_readPromise_7 18 rfl rfl)
theorem dX2_readPromise_187 : decode cX2_readPromise 187 = .ok (.imul, 1) := dk_104 (dk_at dksX2_readPromise_7 19 rfl rfl)
theorem dX2_readPromise_188 : decode cX2_readPromise 188 = .ok (.iload 5, 2) := dk_21 5 (dk_at dksX2_readPromise_7 20 rfl rfl)
theorem dX2_readPromise_190 : decode cX2_readPromise 190 = .ok (.iadd, 1) := dk_96 (dk_at dksX2_readPromise_7 22 rfl rfl)
theorem dX2_readPromise_191 : decode cX2_readPromise 191 = .ok (.aload_n 0, 1) := dk_42 (dk_at dksX2_readPromise_7 23 rfl rfl)
theorem dX2_readPromise_192 : decode cX2_readPromise 192 = .ok (.getfield 63, 3) := dk_180 0 63 (dk_at dksX2_readPromise_8 0 rfl rfl)
theorem dX2_readPromise_195 : decode cX2_readPromise 195 = .ok (.iload 5, 2) := dk_21 5 (dk_at dksX2_readPromise_8 3 rfl rfl)
theorem dX2_readPromise_197 : decode cX2_readPromise 197 = .ok (.laload, 1) := dk_47 (dk_at dksX2_readPromise_8 5 rfl rfl)
theorem dX2_readPromise_198 : decode cX2_readPromise 198 = .ok (.lastore, 1) := dk_80 (dk_at dksX2_readPromise_8 6 rfl rfl)
theorem dX2_readPromise_199 : decode cX2_readPromise 199 = .ok (.iinc 5 1, 3) := dk_132 5 1 (dk_at dksX2_readPromise_8 7 rfl rfl)
theorem dX2_readPromise_202 : decode cX2_readPromise 202 = .ok (.goto (-27), 3) := dk_167 255 229 (dk_at dksX2_readPromise_8 10 rfl rfl)
theorem dX2_readPromise_205 : decode cX2_readPromise 205 = .ok (.aload_n 0, 1) := dk_42 (dk_at dksX2_readPromise_8 13 rfl rfl)
theorem dX2_readPromise_206 : decode cX2_readPromise 206 = .ok (.getfield 139, 3) := dk_180 0 139 (dk_at dksX2_readPromise_8 14 rfl rfl)
theorem dX2_readPromise_209 : decode cX2_readPromise 209 = .ok (.ifCond .ne 80, 3) := dk_154 0 80 (dk_at dksX2_readPromise_8 17 rfl rfl)
theorem dX2_readPromise_212 : decode cX2_readPromise 212 = .ok (.aload_n 0, 1) := dk_42 (dk_at dksX2_readPromise_8 20 rfl rfl)
theorem dX2_readPromise_213 : decode cX2_readPromise 213 = .ok (.aload_n 0, 1) := dk_42 (dk_at dksX2_readPromise_8 21 rfl rfl)
theorem dX2_readPromise_214 : decode cX2_readPromise 214 = .ok (.bipush 59, 2) := dk_16 59 (dk_at dksX2_readPromise_8 22 rfl rfl)
theorem dX2_readPromise_216 : decode cX2_readPromise 216 = .ok (.invokevirtual 188, 3) := dk_182 0 188 (dk_at dksX2_readPromise_9 0 rfl rfl)
theorem dX2_readPromise_219 : decode cX2_readPromise 219 = .ok (.iconst 2, 1) := dk_5 (dk_at dksX2_readPromise_9 3 rfl rfl)
theorem dX2_readPromise_220 : decode cX2_readPromise 220 = .ok (.invokevirtual 165, 3) := dk_182 0 165 (dk_at dksX2_readPromise_9 4 rfl rfl)
theorem dX2_readPromise_223 : decode cX2_readPromise 223 = .ok (.aload_n 0, 1) := dk_42 (dk_at dksX2_readPromise_9 7 rfl rfl)
theorem dX2_readPromise_224 : decode cX2_readPromise 224 = .ok (.iload_n 3, 1) := dk_29 (dk_at dksX2_readPromise_9 8 rfl rfl)
theorem dX2_readPromise_225 : decode cX2_readPromise 225 = .ok (.ifCond .ne 12, 3) := dk_154 0 12 (dk_at dksX2_readPromise_9 9 rfl rfl)
theorem dX2_readPromise_228 : decode cX2_readPromise 228 = .ok (.iload 4, 2) := dk_21 4 (dk_at dksX2_readPromise_9 12 rfl rfl)
theorem dX2_readPromise_230 : decode cX2_readPromise 230 = .ok (.ifCond .ne 7, 3) := dk_154 0 7 (dk_at dksX2_readPromise_9 14 rfl rfl)
theorem dX2_readPromise_233 : decode cX2_readPromise 233 = .ok (.iconst 1, 1) := dk_4 (dk_at dksX2_readPromise_9 17 rfl rfl)
theorem dX2_readPromise_234 : decode cX2_readPromise 234 = .ok (.goto 4, 3) := dk_167 0 4 (dk_at dksX2_readPromise_9 18 rfl rfl)
theorem dX2_readPromise_237 : decode cX2_readPromise 237 = .ok (.iconst 0, 1) := dk_3 (dk_at dksX2_readPromise_9 21 rfl rfl)
theorem dX2_readPromise_238 : decode cX2_readPromise 238 = .ok (.iconst 5, 1) := dk_8 (dk_at dksX2_readPromise_9 22 rfl rfl)
theorem dX2_readPromise_239 : decode cX2_readPromise 239 = .ok (.invokevirtual 165, 3) := dk_182 0 165 (dk_at dksX2_readPromise_10 0 rfl rfl)
theorem dX2_readPromise_242 : decode cX2_readPromise 242 = .ok (.aload_n 0, 1) := dk_42 (dk_at dksX2_readPromise_10 3 rfl rfl)
theorem dX2_readPromise_243 : decode cX2_readPromise 243 = .ok (.aload_n 0, 1) := dk_42 (dk_at dksX2_readPromise_10 4 rfl rfl)
theorem dX2_readPromise_244 : decode cX2_readPromise 244 = .ok (.getfield 13, 3) := dk_180 0 13 (dk_at dksX2_readPromise_10 5 rfl rfl)
theorem dX2_readPromise_247 : decode cX2_readPromise 247 = .ok (.bipush 90, 2) := dk_16 90 (dk_at dksX2_readPromise_10 8 rfl rfl)
theorem dX2_readPromise_249 : decode cX2_readPromise 249 = .ok (.iload_n 2, 1) := dk_28 (dk_at dksX2_readPromise_10 10 rfl rfl)
theorem dX2_readPromise_250 : decode cX2_readPromise 250 = .ok (.imul, 1) := dk_104 (dk_at dksX2_readPromise_10 11 rfl rfl)
theorem dX2_readPromise_251 : decode cX2_readPromise 251 = .ok (.iconst 2, 1) := dk_5 (dk_at dksX2_readPromise_10 12 rfl rfl)
theorem dX2_readPromise_252 : decode cX2_readPromise 252 = .ok (.iadd, 1) := dk_96 (dk_at dksX2_readPromise_10 13 rfl rfl)
theorem dX2_readPromise_253 : decode cX2_readPromise 253 = .ok (.iaload, 1) := dk_46 (dk_at dksX2_readPromise_10 14 rfl rfl)
theorem dX2_readPromise_254 : decode cX2_readPromise 254 = .ok (.bipush 40, 2) := dk_16 40 (dk_at dksX2_readPromise_10 15 rfl rfl)
theorem dX2_readPromise_256 : decode cX2_readPromise 256 = .ok (.if_icmp .gt 27, 3) := dk_163 0 27 (dk_at dksX2_readPromise_10 17 rfl rfl)
theorem dX2_readPromise_259 : decode cX2_readPromise 259 = .ok (.aload_n 0, 1) := dk_42 (dk_at dksX2_readPromise_10 20 rfl rfl)
theorem dX2_readPromise_260 : decode cX2_readPromise 260 = .ok (.getfield 13, 3) := dk_180 0 13 (dk_at dksX2_readPromise_10 21 rfl rfl)
theorem dX2_readPromise_263 : decode cX2_readPromise 263 = .ok (.bipush 45, 2) := dk_16 45 (dk_at dksX2_readPromise_11 0 rfl rfl)
theorem dX2_readPromise_265 : decode cX2_readPromise 265 = .ok (.iconst 2, 1) := dk_5 (dk_at dksX2_readPromise_11 2 rfl rfl)
theorem dX2_readPromise_266 : decode cX2_readPromise 266 = .ok (.iload_n 2, 1) := dk_28 (dk_at dksX2_readPromise_11 3 rfl rfl)
theorem dX2_readPromise_267 : decode cX2_readPromise 267 = .ok (.imul, 1) := dk_104 (dk_at dksX2_readPromise_11 4 rfl rfl)
theorem dX2_readPromise_268 : decode cX2_readPromise 268 = .ok (.iconst 1, 1) := dk_4 (dk_at dksX2_readPromise_11 5 rfl rfl)
theorem dX2_readPromise_269 : decode cX2_readPromise 269 = .ok (.iadd, 1) := dk_96 (dk_at dksX2_readPromise_11 6 rfl rfl)
theorem dX2_readPromise_270 : decode cX2_readPromise 270 = .ok (.imul, 1) := dk_104 (dk_at dksX2_readPromise_11 7 rfl rfl)
theorem dX2_readPromise_271 : decode cX2_readPromise 271 = .ok (.iconst 2, 1) := dk_5 (dk_at dksX2_readPromise_11 8 rfl rfl)
theorem dX2_readPromise_272 : decode cX2_readPromise 272 = .ok (.iadd, 1) := dk_96 (dk_at dksX2_readPromise_11 9 rfl rfl)
theorem dX2_readPromise_273 : decode cX2_readPromise 273 = .ok (.iaload, 1) := dk_46 (dk_at dksX2_readPromise_11 10 rfl rfl)
theorem dX2_readPromise_274 : decode cX2_readPromise 274 = .ok (.bipush 40, 2) := dk_16 40 (dk_at dksX2_readPromise_11 11 rfl rfl)
theorem dX2_readPromise_276 : decode cX2_readPromise 276 = .ok (.if_icmp .gt 7, 3) := dk_163 0 7 (dk_at dksX2_readPromise_11 13 rfl rfl)
theorem dX2_readPromise_279 : decode cX2_readPromise 279 = .ok (.iconst 1, 1) := dk_4 (dk_at dksX2_readPromise_11 16 rfl rfl)
theorem dX2_readPromise_280 : decode cX2_readPromise 280 = .ok (.goto 4, 3) := dk_167 0 4 (dk_at dksX2_readPromise_11 17 rfl rfl)
theorem dX2_readPromise_283 : decode cX2_readPromise 283 = .ok (.iconst 0, 1) := dk_3 (dk_at dksX2_readPromise_11 20 rfl rfl)
theorem dX2_readPromise_284 : decode cX2_readPromise 284 = .ok (.bipush 6, 2) := dk_16 6 (dk_at dksX2_readPromise_11 21 rfl rfl)
theorem dX2_readPromise_286 : decode cX2_readPromise 286 = .ok (.invokevirtual 165, 3) := dk_182 0 165 (dk_at dksX2_readPromise_12 0 rfl rfl)
theorem dX2_readPromise_289 : decode cX2_readPromise 289 = .ok (.aload_n 0, 1) := dk_42 (dk_at dksX2_readPromise_12 3 rfl rfl)
theorem dX2_readPromise_290 : decode cX2_readPromise 290 = .ok (.invokevirtual 177, 3) := dk_182 0 177 (dk_at dksX2_readPromise_12 4 rfl rfl)
theorem dX2_readPromise_293 : decode cX2_readPromise 293 = .ok (.return_, 1) := dk_177 (dk_at dksX2_readPromise_12 7 rfl rfl)
abbrev cX2_isBegin : ByteArray := prog_21_method_37_code
def yX2_isBegin : MethodName := ⟨RX2, "isBegin", "()Z"⟩
def dkwX2_isBegin_1 : List UInt8 := [42, 16, 40, 182, 0, 188, 154, 0, 12, 42, 16, 123, 182, 0, 188, 153, 0, 7, 4, 167, 0, 4, 3, 172]
abbrev dktX2_isBegin_1 : List UInt8 := dkwX2_isBegin_1 ++ []
def dkwX2_isBegin_0 : List UInt8 := [42, 180, 0, 139, 154, 0, 42, 42, 180, 0, 155, 4, 159, 0, 30, 42, 16, 33, 182, 0, 188, 154, 0, 21]
abbrev dktX2_isBegin_0 : List UInt8 := dkwX2_isBegin_0 ++ dktX2_isBegin_1
theorem dksX2_isBegin_0 : cX2_isBegin.data.toList.drop 0 = dktX2_isBegin_0 := by decide +kernel
theorem dksX2_isBegin_1 : cX2_isBegin.data.toList.drop 24 = dktX2_isBegin_1 := dk_seg dksX2_isBegin_0 24 rfl rfl
theorem dX2_isBegin_0 : decode cX2_isBegin 0 = .ok (.aload_n 0, 1) := dk_42 (dk_at dksX2_isBegin_0 0 rfl rfl)
theorem dX2_isBegin_1 : decode cX2_isBegin 1 = .ok (.getfield 139, 3) := dk_180 0 139 (dk_at dksX2_isBegin_0 1 rfl rfl)
theorem dX2_isBegin_4 : decode cX2_isBegin 4 = .ok (.ifCond .ne 42, 3) := dk_154 0 42 (dk_at dksX2_isBegin_0 4 rfl rfl)
theorem dX2_isBegin_7 : decode cX2_isBegin 7 = .ok (.aload_n 0, 1) := dk_42 (dk_at dksX2_isBegin_0 7 rfl rfl)
theorem dX2_isBegin_8 : decode cX2_isBegin 8 = .ok (.getfield 155, 3) := dk_180 0 155 (dk_at dksX2_isBegin_0 8 rfl rfl)
theorem dX2_isBegin_11 : decode cX2_isBegin 11 = .ok (.iconst 1, 1) := dk_4 (dk_at dksX2_isBegin_0 11 rfl rfl)
theorem dX2_isBegin_12 : decode cX2_isBegin 12 = .ok (.if_icmp .eq 30, 3) := dk_159 0 30 (dk_at dksX2_isBegin_0 12 rfl rfl)
theorem dX2_isBegin_15 : decode cX2_isBegin 15 = .ok (.aload_n 0, 1) := dk_42 (dk_at dksX2_isBegin_0 15 rfl rfl)
theorem dX2_isBegin_16 : decode cX2_isBegin 16 = .ok (.bipush 33, 2) := dk_16 33 (dk_at dksX2_isBegin_0 16 rfl rfl)
theorem dX2_isBegin_18 : decode cX2_isBegin 18 = .ok (.invokevirtual 188, 3) := dk_182 0 188 (dk_at dksX2_isBegin_0 18 rfl rfl)
theorem dX2_isBegin_21 : decode cX2_isBegin 21 = .ok (.ifCond .ne 21, 3) := dk_154 0 21 (dk_at dksX2_isBegin_0 21 rfl rfl)
theorem dX2_isBegin_24 : decode cX2_isBegin 24 = .ok (.aload_n 0, 1) := dk_42 (dk_at dksX2_isBegin_1 0 rfl rfl)
theorem dX2_isBegin_25 : decode cX2_isBegin 25 = .ok (.bipush 40, 2) := dk_16 40 (dk_at dksX2_isBegin_1 1 rfl rfl)
theorem dX2_isBegin_27 : decode cX2_isBegin 27 = .ok (.invokevirtual 188, 3) := dk_182 0 188 (dk_at dksX2_isBegin_1 3 rfl rfl)
theorem dX2_isBegin_30 : decode cX2_isBegin 30 = .ok (.ifCond .ne 12, 3) := dk_154 0 12 (dk_at dksX2_isBegin_1 6 rfl rfl)
theorem dX2_isBegin_33 : decode cX2_isBegin 33 = .ok (.aload_n 0, 1) := dk_42 (dk_at dksX2_isBegin_1 9 rfl rfl)
theorem dX2_isBegin_34 : decode cX2_isBegin 34 = .ok (.bipush 123, 2) := dk_16 123 (dk_at dksX2_isBegin_1 10 rfl rfl)
theorem dX2_isBegin_36 : decode cX2_isBegin 36 = .ok (.invokevirtual 188, 3) := dk_182 0 188 (dk_at dksX2_isBegin_1 12 rfl rfl)
theorem dX2_isBegin_39 : decode cX2_isBegin 39 = .ok (.ifCond .eq 7, 3) := dk_153 0 7 (dk_at dksX2_isBegin_1 15 rfl rfl)
theorem dX2_isBegin_42 : decode cX2_isBegin 42 = .ok (.iconst 1, 1) := dk_4 (dk_at dksX2_isBegin_1 18 rfl rfl)
theorem dX2_isBegin_43 : decode cX2_isBegin 43 = .ok (.goto 4, 3) := dk_167 0 4 (dk_at dksX2_isBegin_1 19 rfl rfl)
theorem dX2_isBegin_46 : decode cX2_isBegin 46 = .ok (.iconst 0, 1) := dk_3 (dk_at dksX2_isBegin_1 22 rfl rfl)
theorem dX2_isBegin_47 : decode cX2_isBegin 47 = .ok (.ireturn, 1) := dk_172 (dk_at dksX2_isBegin_1 23 rfl rfl)
abbrev cX2_isSign : ByteArray := prog_21_method_13_code
def yX2_isSign : MethodName := ⟨RX2, "isSign", "(I)Z"⟩
def dkwX2_isSign_1 : List UInt8 := [160, 0, 7, 4, 167, 0, 4, 3, 172]
abbrev dktX2_isSign_1 : List UInt8 := dkwX2_isSign_1 ++ []
def dkwX2_isSign_0 : List UInt8 := [42, 180, 0, 139, 154, 0, 27, 42, 180, 0, 155, 6, 160, 0, 19, 42, 42, 180, 0, 142, 182, 0, 151, 27]
abbrev dktX2_isSign_0 : List UInt8 := dkwX2_isSign_0 ++ dktX2_isSign_1
theorem dksX2_isSign_0 : cX2_isSign.data.toList.drop 0 = dktX2_isSign_0 := by decide +kernel
theorem dksX2_isSign_1 : cX2_isSign.data.toList.drop 24 = dktX2_isSign_1 := dk_seg dksX2_isSign_0 24 rfl rfl
theorem dX2_isSign_0 : decode cX2_isSign 0 = .ok (.aload_n 0, 1) := dk_42 (dk_at dksX2_isSign_0 0 rfl rfl)
theorem dX2_isSign_1 : decode cX2_isSign 1 = .ok (.getfield 139, 3) := dk_180 0 139 (dk_at dksX2_isSign_0 1 rfl rfl)
theorem dX2_isSign_4 : decode cX2_isSign 4 = .ok (.ifCond .ne 27, 3) := dk_154 0 27 (dk_at dksX2_isSign_0 4 rfl rfl)
theorem dX2_isSign_7 : decode cX2_isSign 7 = .ok (.aload_n 0, 1) := dk_42 (dk_at dksX2_isSign_0 7 rfl rfl)
theorem dX2_isSign_8 : decode cX2_isSign 8 = .ok (.getfield 155, 3) := dk_180 0 155 (dk_at dksX2_isSign_0 8 rfl rfl)
theorem dX2_isSign_11 : decode cX2_isSign 11 = .ok (.iconst 3, 1) := dk_6 (dk_at dksX2_isSign_0 11 rfl rfl)
theorem dX2_isSign_12 : decode cX2_isSign 12 = .ok (.if_icmp .ne 19, 3) := dk_160 0 19 (dk_at dksX2_isSign_0 12 rfl rfl)
theorem dX2_isSign_15 : decode cX2_isSign 15 = .ok (.aload_n 0, 1) := dk_42 (dk_at dksX2_isSign_0 15 rfl rfl)
theorem dX2_isSign_16 : decode cX2_isSign 16 = .ok (.aload_n 0, 1) := dk_42 (dk_at dksX2_isSign_0 16 rfl rfl)
theorem dX2_isSign_17 : decode cX2_isSign 17 = .ok (.getfield 142, 3) := dk_180 0 142 (dk_at dksX2_isSign_0 17 rfl rfl)
theorem dX2_isSign_20 : decode cX2_isSign 20 = .ok (.invokevirtual 151, 3) := dk_182 0 151 (dk_at dksX2_isSign_0 20 rfl rfl)
theorem dX2_isSign_23 : decode cX2_isSign 23 = .ok (.iload_n 1, 1) := dk_27 (dk_at dksX2_isSign_0 23 rfl rfl)
theorem dX2_isSign_24 : decode cX2_isSign 24 = .ok (.if_icmp .ne 7, 3) := dk_160 0 7 (dk_at dksX2_isSign_1 0 rfl rfl)
theorem dX2_isSign_27 : decode cX2_isSign 27 = .ok (.iconst 1, 1) := dk_4 (dk_at dksX2_isSign_1 3 rfl rfl)
theorem dX2_isSign_28 : decode cX2_isSign 28 = .ok (.goto 4, 3) := dk_167 0 4 (dk_at dksX2_isSign_1 4 rfl rfl)
theorem dX2_isSign_31 : decode cX2_isSign 31 = .ok (.iconst 0, 1) := dk_3 (dk_at dksX2_isSign_1 7 rfl rfl)
theorem dX2_isSign_32 : decode cX2_isSign 32 = .ok (.ireturn, 1) := dk_172 (dk_at dksX2_isSign_1 8 rfl rfl)
abbrev cX2_readSequence : ByteArray := prog_21_method_34_code
def yX2_readSequence : MethodName := ⟨RX2, "readSequence", "(I)V"⟩
def dkwX2_readSequence_9 : List UInt8 := [154, 0, 15, 42, 4, 16, 11, 182, 1, 13, 42, 27, 182, 1, 22, 177]
abbrev dktX2_readSequence_9 : List UInt8 := dkwX2_readSequence_9 ++ []
def dkwX2_readSequence_8 : List UInt8 := [154, 0, 20, 42, 42, 180, 0, 244, 154, 0, 7, 4, 167, 0, 4, 3, 5, 182, 0, 165, 42, 180, 0, 139]
abbrev dktX2_readSequence_8 : List UInt8 := dkwX2_readSequence_8 ++ dktX2_readSequence_9
def dkwX2_readSequence_7 : List UInt8 := [42, 182, 0, 177, 42, 180, 0, 139, 154, 0, 7, 4, 167, 0, 4, 3, 61, 167, 255, 160, 42, 180, 0, 139]
abbrev dktX2_readSequence_7 : List UInt8 := dkwX2_readSequence_7 ++ dktX2_readSequence_8
def dkwX2_readSequence_6 : List UInt8 := [96, 16, 11, 42, 180, 0, 244, 96, 182, 1, 13, 42, 180, 0, 102, 16, 11, 42, 180, 0, 244, 96, 3, 84]
abbrev dktX2_readSequence_6 : List UInt8 := dkwX2_readSequence_6 ++ dktX2_readSequence_7
def dkwX2_readSequence_5 : List UInt8 := [167, 0, 4, 3, 61, 28, 153, 255, 219, 42, 16, 47, 182, 0, 188, 153, 0, 33, 42, 4, 42, 180, 0, 244]
abbrev dktX2_readSequence_5 : List UInt8 := dkwX2_readSequence_5 ++ dktX2_readSequence_6
def dkwX2_readSequence_4 : List UInt8 := [42, 182, 1, 19, 42, 16, 44, 182, 0, 188, 154, 0, 12, 42, 16, 47, 182, 0, 188, 153, 0, 7, 4]
abbrev dktX2_readSequence_4 : List UInt8 := dkwX2_readSequence_4 ++ dktX2_readSequence_5
def dkwX2_readSequence_3 : List UInt8 := [182, 0, 247, 42, 180, 0, 139, 154, 0, 7, 4, 167, 0, 4, 3, 61, 28, 153, 0, 98, 42, 182, 1, 16]
abbrev dktX2_readSequence_3 : List UInt8 := dkwX2_readSequence_3 ++ dktX2_readSequence_4
def dkwX2_readSequence_2 : List UInt8 := [162, 0, 22, 42, 180, 0, 20, 17, 0, 203, 27, 104, 28, 96, 9, 80, 132, 2, 1, 167, 255, 233, 42]
abbrev dktX2_readSequence_2 : List UInt8 := dkwX2_readSequence_2 ++ dktX2_readSequence_3
def dkwX2_readSequence_1 : List UInt8 := [180, 0, 13, 16, 45, 27, 104, 28, 96, 3, 79, 132, 2, 1, 167, 255, 235, 3, 61, 28, 17, 0, 203]
abbrev dktX2_readSequence_1 : List UInt8 := dkwX2_readSequence_1 ++ dktX2_readSequence_2
def dkwX2_readSequence_0 : List UInt8 := [42, 27, 181, 0, 214, 42, 3, 181, 0, 244, 42, 3, 181, 0, 236, 3, 61, 28, 16, 45, 162, 0, 21, 42]
abbrev dktX2_readSequence_0 : List UInt8 := dkwX2_readSequence_0 ++ dktX2_readSequence_1
theorem dksX2_readSequence_0 : cX2_readSequence.data.toList.drop 0 = dktX2_readSequence_0 := by decide +kernel
theorem dksX2_readSequence_1 : cX2_readSequence.data.toList.drop 24 = dktX2_readSequence_1 := dk_seg dksX2_readSequence_0 24 rfl rfl
theorem dksX2_readSequence_2 : cX2_readSequence.data.toList.drop 47 = dktX2_readSequence_2 := dk_seg dksX2_readSequence_1 23 rfl rfl
theorem dksX2_readSequence_3 : cX2_readSequence.data.toList.drop 70 = dktX2_readSequence_3 := dk_seg dksX2_readSequence_2 23 rfl rfl
theorem dksX2_readSequence_4 : cX2_readSequence.data.toList.drop 94 = dktX2_readSequence_4 := dk_seg dksX2_readSequence_3 24 rfl rfl
theorem dksX2_readSequence_5 : cX2_readSequence.data.toList.drop 117 = dktX2_readSequence_5 := dk_seg dksX2_readSequence_4 23 rfl rfl
theorem dksX2_readSequence_6 : cX2_readSequence.data.toList.drop 141 = dktX2_readSequence_6 := dk_seg dksX2_readSequence_5 24 rfl rfl
theorem dksX2_readSequence_7 : cX2_readSequence.data.toList.drop 165 = dktX2_readSequence_7 := dk_seg dksX2_readSequence_6 24 rfl rfl
theorem dksX2_readSequence_8 : cX2_readSequence.data.toList.drop 189 = dktX2_readSequence_8 := dk_seg dksX2_readSequence_7 24 rfl rfl
theorem dksX2_readSequence_9 : cX2_readSequence.data.toList.drop 213 = dktX2_readSequence_9 := dk_seg dksX2_readSequence_8 24 rfl rfl
theorem dX2_readSequence_0 : decode cX2_readSequence 0 = .ok (.aload_n 0, 1) := dk_42 (dk_at dksX2_readSequence_0 0 rfl rfl)
theorem dX2_readSequence_1 : decode cX2_readSequence 1 = .ok (.iload_n 1, 1) := dk_27 (dk_at dksX2_readSequence_0 1 rfl rfl)
theorem dX2_readSequence_2 : decode cX2_readSequence 2 = .ok (.putfield 214, 3) := dk_181 0 214 (dk_at dksX2_readSequence_0 2 rfl rfl)
theorem dX2_readSequence_5 : decode cX2_readSequence 5 = .ok (.aload_n 0, 1) := dk_42 (dk_at dksX2_readSequence_0 5 rfl rfl)
theorem dX2_readSequence_6 : decode cX2_readSequence 6 = .ok (.iconst 0, 1) := dk_3 (dk_at dksX2_readSequence_0 6 rfl rfl)
theorem dX2_readSequence_7 : decode cX2_readSequence 7 = .ok (.putfield 244, 3) := dk_181 0 244 (dk_at dksX2_readSequence_0 7 rfl rfl)
theorem dX2_readSequence_10 : decode cX2_readSequence 10 = .ok (.aload_n 0, 1) := dk_42 (dk_at dksX2_readSequence_0 10 rfl rfl)
theorem dX2_readSequence_11 : decode cX2_readSequence 11 = .ok (.iconst 0, 1) := dk_3 (dk_at dksX2_readSequence_0 11 rfl rfl)
theorem dX2_readSequence_12 : decode cX2_readSequence 12 = .ok (.putfield 236, 3) := dk_181 0 236 (dk_at dksX2_readSequence_0 12 rfl rfl)
theorem dX2_readSequence_15 : decode cX2_readSequence 15 = .ok (.iconst 0, 1) := dk_3 (dk_at dksX2_readSequence_0 15 rfl rfl)
theorem dX2_readSequence_16 : decode cX2_readSequence 16 = .ok (.istore_n 2, 1) := dk_61 (dk_at dksX2_readSequence_0 16 rfl rfl)
theorem dX2_readSequence_17 : decode cX2_readSequence 17 = .ok (.iload_n 2, 1) := dk_28 (dk_at dksX2_readSequence_0 17 rfl rfl)
theorem dX2_readSequence_18 : decode cX2_readSequence 18 = .ok (.bipush 45, 2) := dk_16 45 (dk_at dksX2_readSequence_0 18 rfl rfl)
theorem dX2_readSequence_20 : decode cX2_readSequence 20 = .ok (.if_icmp .ge 21, 3) := dk_162 0 21 (dk_at dksX2_readSequence_0 20 rfl rfl)
theorem dX2_readSequence_23 : decode cX2_readSequence 23 = .ok (.aload_n 0, 1) := dk_42 (dk_at dksX2_readSequence_0 23 rfl rfl)
theorem dX2_readSequence_24 : decode cX2_readSequence 24 = .ok (.getfield 13, 3) := dk_180 0 13 (dk_at dksX2_readSequence_1 0 rfl rfl)
theorem dX2_readSequence_27 : decode cX2_readSequence 27 = .ok (.bipush 45, 2) := dk_16 45 (dk_at dksX2_readSequence_1 3 rfl rfl)
theorem dX2_readSequence_29 : decode cX2_readSequence 29 = .ok (.iload_n 1, 1) := dk_27 (dk_at dksX2_readSequence_1 5 rfl rfl)
theorem dX2_readSequence_30 : decode cX2_readSequence 30 = .ok (.imul, 1) := dk_104 (dk_at dksX2_readSequence_1 6 rfl rfl)
theorem dX2_readSequence_31 : decode cX2_readSequence 31 = .ok (.iload_n 2, 1) := dk_28 (dk_at dksX2_readSequence_1 7 rfl rfl)
theorem dX2_readSequence_32 : decode cX2_readSequence 32 = .ok (.iadd, 1) := dk_96 (dk_at dksX2_readSequence_1 8 rfl rfl)
theorem dX2_readSequence_33 : decode cX2_readSequence 33 = .ok (.iconst 0, 1) := dk_3 (dk_at dksX2_readSequence_1 9 rfl rfl)
theorem dX2_readSequence_34 : decode cX2_readSequence 34 = .ok (.iastore, 1) := dk_79 (dk_at dksX2_readSequence_1 10 rfl rfl)
theorem dX2_readSequence_35 : decode cX2_readSequence 35 = .ok (.iinc 2 1, 3) := dk_132 2 1 (dk_at dksX2_readSequence_1 11 rfl rfl)
theorem dX2_readSequence_38 : decode cX2_readSequence 38 = .ok (.goto (-21), 3) := dk_167 255 235 (dk_at dksX2_readSequence_1 14 rfl rfl)
theorem dX2_readSequence_41 : decode cX2_readSequence 41 = .ok (.iconst 0, 1) := dk_3 (dk_at dksX2_readSequence_1 17 rfl rfl)
theorem dX2_readSequence_42 : decode cX2_readSequence 42 = .ok (.istore_n 2, 1) := dk_61 (dk_at dksX2_readSequence_1 18 rfl rfl)
theorem dX2_readSequence_43 : decode cX2_readSequence 43 = .ok (.iload_n 2, 1) := dk_28 (dk_at dksX2_readSequence_1 19 rfl rfl)
theorem dX2_readSequence_44 : decode cX2_readSequence 44 = .ok (.sipush 203, 3) := dk_17 0 203 (dk_at dksX2_readSequence_1 20 rfl rfl)
theorem dX2_readSequence_47 : decode cX2_readSequence 47 = .ok (.if_icmp .ge 22, 3) := dk_162 0 22 (dk_at dksX2_readSequence_2 0 rfl rfl)
theorem dX2_readSequence_50 : decode cX2_readSequence 50 = .ok (.aload_n 0, 1) := dk_42 (dk_at dksX2_readSequence_2 3 rfl rfl)
theorem dX2_readSequence_51 : decode cX2_readSequence 51 = .ok (.getfield 20, 3) := dk_180 0 20 (dk_at dksX2_readSequence_2 4 rfl rfl)
theorem dX2_readSequence_54 : decode cX2_readSequence 54 = .ok (.sipush 203, 3) := dk_17 0 203 (dk_at dksX2_readSequence_2 7 rfl rfl)
theorem dX2_readSequence_57 : decode cX2_readSequence 57 = .ok (.iload_n 1, 1) := dk_27 (dk_at dksX2_readSequence_2 10 rfl rfl)
theorem dX2_readSequence_58 : decode cX2_readSequence 58 = .ok (.imul, 1) := dk_104 (dk_at dksX2_readSequence_2 11 rfl rfl)
theorem dX2_readSequence_59 : decode cX2_readSequence 59 = .ok (.iload_n 2, 1) := dk_28 (dk_at dksX2_readSequence_2 12 rfl rfl)
theorem dX2_readSequence_60 : decode cX2_readSequence 60 = .ok (.iadd, 1) := dk_96 (dk_at dksX2_readSequence_2 13 rfl rfl)
theorem dX2_readSequence_61 : decode cX2_readSequence 61 = .ok (.lconst 0, 1) := dk_9 (dk_at dksX2_readSequence_2 14 rfl rfl)
theorem dX2_readSequence_62 : decode cX2_readSequence 62 = .ok (.lastore, 1) := dk_80 (dk_at dksX2_readSequence_2 15 rfl rfl)
theorem dX2_readSequence_63 : decode cX2_readSequence 63 = .ok (.iinc 2 1, 3) := dk_132 2 1 (dk_at dksX2_readSequence_2 16 rfl rfl)
theorem dX2_readSequence_66 : decode cX2_readSequence 66 = .ok (.goto (-23), 3) := dk_167 255 233 (dk_at dksX2_readSequence_2 19 rfl rfl)
theorem dX2_readSequence_69 : decode cX2_readSequence 69 = .ok (.aload_n 0, 1) := dk_42 (dk_at dksX2_readSequence_2 22 rfl rfl)
theorem dX2_readSequence_70 : decode cX2_readSequence 70 = .ok (.invokevirtual 247, 3) := dk_182 0 247 (dk_at dksX2_readSequence_3 0 rfl rfl)
theorem dX2_readSequence_73 : decode cX2_readSequence 73 = .ok (.aload_n 0, 1) := dk_42 (dk_at dksX2_readSequence_3 3 rfl rfl)
theorem dX2_readSequence_74 : decode cX2_readSequence 74 = .ok (.getfield 139, 3) := dk_180 0 139 (dk_at dksX2_readSequence_3 4 rfl rfl)
theorem dX2_readSequence_77 : decode cX2_readSequence 77 = .ok (.ifCond .ne 7, 3) := dk_154 0 7 (dk_at dksX2_readSequence_3 7 rfl rfl)
theorem dX2_readSequence_80 : decode cX2_readSequence 80 = .ok (.iconst 1, 1) := dk_4 (dk_at dksX2_readSequence_3 10 rfl rfl)
theorem dX2_readSequence_81 : decode cX2_readSequence 81 = .ok (.goto 4, 3) := dk_167 0 4 (dk_at dksX2_readSequence_3 11 rfl rfl)
theorem dX2_readSequence_84 : decode cX2_readSequence 84 = .ok (.iconst 0, 1) := dk_3 (dk_at dksX2_readSequence_3 14 rfl rfl)
theorem dX2_readSequence_85 : decode cX2_readSequence 85 = .ok (.istore_n 2, 1) := dk_61 (dk_at dksX2_readSequence_3 15 rfl rfl)
theorem dX2_readSequence_86 : decode cX2_readSequence 86 = .ok (.iload_n 2, 1) := dk_28 (dk_at dksX2_readSequence_3 16 rfl rfl)
theorem dX2_readSequence_87 : decode cX2_readSequence 87 = .ok (.ifCond .eq 98, 3) := dk_153 0 98 (dk_at dksX2_readSequence_3 17 rfl rfl)
theorem dX2_readSequence_90 : decode cX2_readSequence 90 = .ok (.aload_n 0, 1) := dk_42 (dk_at dksX2_readSequence_3 20 rfl rfl)
theorem dX2_readSequence_91 : decode cX2_readSequence 91 = .ok (.invokevirtual 272, 3) := dk_182 1 16 (dk_at dksX2_readSequence_3 21 rfl rfl)
theorem dX2_readSequence_94 : decode cX2_readSequence 94 = .ok (.aload_n 0, 1) := dk_42 (dk_at dksX2_readSequence_4 0 rfl rfl)
theorem dX2_readSequence_95 : decode cX2_readSequence 95 = .ok (.invokevirtual 275, 3) := dk_182 1 19 (dk_at dksX2_readSequence_4 1 rfl rfl)
theorem dX2_readSequence_98 : decode cX2_readSequence 98 = .ok (.aload_n 0, 1) := dk_42 (dk_at dksX2_readSequence_4 4 rfl rfl)
theorem dX2_readSequence_99 : decode cX2_readSequence 99 = .ok (.bipush 44, 2) := dk_16 44 (dk_at dksX2_readSequence_4 5 rfl rfl)
theorem dX2_readSequence_101 : decode cX2_readSequence 101 = .ok (.invokevirtual 188, 3) := dk_182 0 188 (dk_at dksX2_readSequence_4 7 rfl rfl)
theorem dX2_readSequence_104 : decode cX2_readSequence 104 = .ok (.ifCond .ne 12, 3) := dk_154 0 12 (dk_at dksX2_readSequence_4 10 rfl rfl)
theorem dX2_readSequence_107 : decode cX2_readSequence 107 = .ok (.aload_n 0, 1) := dk_42 (dk_at dksX2_readSequence_4 13 rfl rfl)
theorem dX2_readSequence_108 : decode cX2_readSequence 108 = .ok (.bipush 47, 2) := dk_16 47 (dk_at dksX2_readSequence_4 14 rfl rfl)
theorem dX2_readSequence_110 : decode cX2_readSequence 110 = .ok (.invokevirtual 188, 3) := dk_182 0 188 (dk_at dksX2_readSequence_4 16 rfl rfl)
theorem dX2_readSequence_113 : decode cX2_readSequence 113 = .ok (.ifCond .eq 7, 3) := dk_153 0 7 (dk_at dksX2_readSequence_4 19 rfl rfl)
theorem dX2_readSequence_116 : decode cX2_readSequence 116 = .ok (.iconst 1, 1) := dk_4 (dk_at dksX2_readSequence_4 22 rfl rfl)
theorem dX2_readSequence_117 : decode cX2_readSequence 117 = .ok (.goto 4, 3) := dk_167 0 4 (dk_at dksX2_readSequence_5 0 rfl rfl)
theorem dX2_readSequence_120 : decode cX2_readSequence 120 = .ok (.iconst 0, 1) := dk_3 (dk_at dksX2_readSequence_5 3 rfl rfl)
theorem dX2_readSequence_121 : decode cX2_readSequence 121 = .ok (.istore_n 2, 1) := dk_61 (dk_at dksX2_readSequence_5 4 rfl rfl)
theorem dX2_readSequence_122 : decode cX2_readSequence 122 = .ok (.iload_n 2, 1) := dk_28 (dk_at dksX2_readSequence_5 5 rfl rfl)
theorem dX2_readSequence_123 : decode cX2_readSequence 123 = .ok (.ifCond .eq (-37), 3) := dk_153 255 219 (dk_at dksX2_readSequence_5 6 rfl rfl)
theorem dX2_readSequence_126 : decode cX2_readSequence 126 = .ok (.aload_n 0, 1) := dk_42 (dk_at dksX2_readSequence_5 9 rfl rfl)
theorem dX2_readSequence_127 : decode cX2_readSequence 127 = .ok (.bipush 47, 2) := dk_16 47 (dk_at dksX2_readSequence_5 10 rfl rfl)
theorem dX2_readSequence_129 : decode cX2_readSequence 129 = .ok (.invokevirtual 188, 3) := dk_182 0 188 (dk_at dksX2_readSequence_5 12 rfl rfl)
theorem dX2_readSequence_132 : decode cX2_readSequence 132 = .ok (.ifCond .eq 33, 3) := dk_153 0 33 (dk_at dksX2_readSequence_5 15 rfl rfl)
theorem dX2_readSequence_135 : decode cX2_readSequence 135 = .ok (.aload_n 0, 1) := dk_42 (dk_at dksX2_readSequence_5 18 rfl rfl)
theorem dX2_readSequence_136 : decode cX2_readSequence 136 = .ok (.iconst 1, 1) := dk_4 (dk_at dksX2_readSequence_5 19 rfl rfl)
theorem dX2_readSequence_137 : decode cX2_readSequence 137 = .ok (.aload_n 0, 1) := dk_42 (dk_at dksX2_readSequence_5 20 rfl rfl)
theorem dX2_readSequence_138 : decode cX2_readSequence 138 = .ok (.getfield 244, 3) := dk_180 0 244 (dk_at dksX2_readSequence_5 21 rfl rfl)
theorem dX2_readSequence_141 : decode cX2_readSequence 141 = .ok (.iadd, 1) := dk_96 (dk_at dksX2_readSequence_6 0 rfl rfl)
theorem dX2_readSequence_142 : decode cX2_readSequence 142 = .ok (.bipush 11, 2) := dk_16 11 (dk_at dksX2_readSequence_6 1 rfl rfl)
theorem dX2_readSequence_144 : decode cX2_readSequence 144 = .ok (.aload_n 0, 1) := dk_42 (dk_at dksX2_readSequence_6 3 rfl rfl)
theorem dX2_readSequence_145 : decode cX2_readSequence 145 = .ok (.getfield 244, 3) := dk_180 0 244 (dk_at dksX2_readSequence_6 4 rfl rfl)
theorem dX2_readSequence_148 : decode cX2_readSequence 148 = .ok (.iadd, 1) := dk_96 (dk_at dksX2_readSequence_6 7 rfl rfl)
theorem dX2_readSequence_149 : decode cX2_readSequence 149 = .ok (.invokevirtual 269, 3) := dk_182 1 13 (dk_at dksX2_readSequence_6 8 rfl rfl)
theorem dX2_readSequence_152 : decode cX2_readSequence 152 = .ok (.aload_n 0, 1) := dk_42 (dk_at dksX2_readSequence_6 11 rfl rfl)
theorem dX2_readSequence_153 : decode cX2_readSequence 153 = .ok (.getfield 102, 3) := dk_180 0 102 (dk_at dksX2_readSequence_6 12 rfl rfl)
theorem dX2_readSequence_156 : decode cX2_readSequence 156 = .ok (.bipush 11, 2) := dk_16 11 (dk_at dksX2_readSequence_6 15 rfl rfl)
theorem dX2_readSequence_158 : decode cX2_readSequence 158 = .ok (.aload_n 0, 1) := dk_42 (dk_at dksX2_readSequence_6 17 rfl rfl)
theorem dX2_readSequence_159 : decode cX2_readSequence 159 = .ok (.getfield 244, 3) := dk_180 0 244 (dk_at dksX2_readSequence_6 18 rfl rfl)
theorem dX2_readSequence_162 : decode cX2_readSequence 162 = .ok (.iadd, 1) := dk_96 (dk_at dksX2_readSequence_6 21 rfl rfl)
theorem dX2_readSequence_163 : decode cX2_readSequence 163 = .ok (.iconst 0, 1) := dk_3 (dk_at dksX2_readSequence_6 22 rfl rfl)
theorem dX2_readSequence_164 : decode cX2_readSequence 164 = .ok (.bastore, 1) := dk_84 (dk_at dksX2_readSequence_6 23 rfl rfl)
theorem dX2_readSequence_165 : decode cX2_readSequence 165 = .ok (.aload_n 0, 1) := dk_42 (dk_at dksX2_readSequence_7 0 rfl rfl)
theorem dX2_readSequence_166 : decode cX2_readSequence 166 = .ok (.invokevirtual 177, 3) := dk_182 0 177 (dk_at dksX2_readSequence_7 1 rfl rfl)
theorem dX2_readSequence_169 : decode cX2_readSequence 169 = .ok (.aload_n 0, 1) := dk_42 (dk_at dksX2_readSequence_7 4 rfl rfl)
theorem dX2_readSequence_170 : decode cX2_readSequence 170 = .ok (.getfield 139, 3) := dk_180 0 139 (dk_at dksX2_readSequence_7 5 rfl rfl)
theorem dX2_readSequence_173 : decode cX2_readSequence 173 = .ok (.ifCond .ne 7, 3) := dk_154 0 7 (dk_at dksX2_readSequence_7 8 rfl rfl)
theorem dX2_readSequence_176 : decode cX2_readSequence 176 = .ok (.iconst 1, 1) := dk_4 (dk_at dksX2_readSequence_7 11 rfl rfl)
theorem dX2_readSequence_177 : decode cX2_readSequence 177 = .ok (.goto 4, 3) := dk_167 0 4 (dk_at dksX2_readSequence_7 12 rfl rfl)
theorem dX2_readSequence_180 : decode cX2_readSequence 180 = .ok (.iconst 0, 1) := dk_3 (dk_at dksX2_readSequence_7 15 rfl rfl)
theorem dX2_readSequence_181 : decode cX2_readSequence 181 = .ok (.istore_n 2, 1) := dk_61 (dk_at dksX2_readSequence_7 16 rfl rfl)
theorem dX2_readSequence_182 : decode cX2_readSequence 182 = .ok (.goto (-96), 3) := dk_167 255 160 (dk_at dksX2_readSequence_7 17 rfl rfl)
theorem dX2_readSequence_185 : decode cX2_readSequence 185 = .ok (.aload_n 0, 1) := dk_42 (dk_at dksX2_readSequence_7 20 rfl rfl)
theorem dX2_readSequence_186 : decode cX2_readSequence 186 = .ok (.getfield 139, 3) := dk_180 0 139 (dk_at dksX2_readSequence_7 21 rfl rfl)
theorem dX2_readSequence_189 : decode cX2_readSequence 189 = .ok (.ifCond .ne 20, 3) := dk_154 0 20 (dk_at dksX2_readSequence_8 0 rfl rfl)
theorem dX2_readSequence_192 : decode cX2_readSequence 192 = .ok (.aload_n 0, 1) := dk_42 (dk_at dksX2_readSequence_8 3 rfl rfl)
theorem dX2_readSequence_193 : decode cX2_readSequence 193 = .ok (.aload_n 0, 1) := dk_42 (dk_at dksX2_readSequence_8 4 rfl rfl)
theorem dX2_readSequence_194 : decode cX2_readSequence 194 = .ok (.getfield 244, 3) := dk_180 0 244 (dk_at dksX2_readSequence_8 5 rfl rfl)
theorem dX2_readSequence_197 : decode cX2_readSequence 197 = .ok (.ifCond .ne 7, 3) := dk_154 0 7 (dk_at dksX2_readSequence_8 8 rfl rfl)
theorem dX2_readSequence_200 : decode cX2_readSequence 200 = .ok (.iconst 1, 1) := dk_4 (dk_at dksX2_readSequence_8 11 rfl rfl)
theorem dX2_readSequence_201 : decode cX2_readSequence 201 = .ok (.goto 4, 3) := dk_167 0 4 (dk_at dksX2_readSequence_8 12 rfl rfl)
theorem dX2_readSequence_204 : decode cX2_readSequence 204 = .ok (.iconst 0, 1) := dk_3 (dk_at dksX2_readSequence_8 15 rfl rfl)
theorem dX2_readSequence_205 : decode cX2_readSequence 205 = .ok (.iconst 2, 1) := dk_5 (dk_at dksX2_readSequence_8 16 rfl rfl)
theorem dX2_readSequence_206 : decode cX2_readSequence 206 = .ok (.invokevirtual 165, 3) := dk_182 0 165 (dk_at dksX2_readSequence_8 17 rfl rfl)
theorem dX2_readSequence_209 : decode cX2_readSequence 209 = .ok (.aload_n 0, 1) := dk_42 (dk_at dksX2_readSequence_8 20 rfl rfl)
theorem dX2_readSequence_210 : decode cX2_readSequence 210 = .ok (.getfield 139, 3) := dk_180 0 139 (dk_at dksX2_readSequence_8 21 rfl rfl)
theorem dX2_readSequence_213 : decode cX2_readSequence 213 = .ok (.ifCond .ne 15, 3) := dk_154 0 15 (dk_at dksX2_readSequence_9 0 rfl rfl)
theorem dX2_readSequence_216 : decode cX2_readSequence 216 = .ok (.aload_n 0, 1) := dk_42 (dk_at dksX2_readSequence_9 3 rfl rfl)
theorem dX2_readSequence_217 : decode cX2_readSequence 217 = .ok (.iconst 1, 1) := dk_4 (dk_at dksX2_readSequence_9 4 rfl rfl)
theorem dX2_readSequence_218 : decode cX2_readSequence 218 = .ok (.bipush 11, 2) := dk_16 11 (dk_at dksX2_readSequence_9 5 rfl rfl)
theorem dX2_readSequence_220 : decode cX2_readSequence 220 = .ok (.invokevirtual 269, 3) := dk_182 1 13 (dk_at dksX2_readSequence_9 7 rfl rfl)
theorem dX2_readSequence_223 : decode cX2_readSequence 223 = .ok (.aload_n 0, 1) := dk_42 (dk_at dksX2_readSequence_9 10 rfl rfl)
theorem dX2_readSequence_224 : decode cX2_readSequence 224 = .ok (.iload_n 1, 1) := dk_27 (dk_at dksX2_readSequence_9 11 rfl rfl)
theorem dX2_readSequence_225 : decode cX2_readSequence 225 = .ok (.invokevirtual 278, 3) := dk_182 1 22 (dk_at dksX2_readSequence_9 12 rfl rfl)
theorem dX2_readSequence_228 : decode cX2_readSequence 228 = .ok (.return_, 1) := dk_177 (dk_at dksX2_readSequence_9 15 rfl rfl)
abbrev cX2_opensSequence : ByteArray := prog_21_method_30_code
def yX2_opensSequence : MethodName := ⟨RX2, "opensSequence", "()V"⟩
def dkwX2_opensSequence_1 : List UInt8 := [84, 177]
abbrev dktX2_opensSequence_1 : List UInt8 := dkwX2_opensSequence_1 ++ []
def dkwX2_opensSequence_0 : List UInt8 := [42, 180, 0, 102, 4, 42, 180, 0, 244, 96, 3, 84, 42, 180, 0, 102, 16, 11, 42, 180, 0, 244, 96, 3]
abbrev dktX2_opensSequence_0 : List UInt8 := dkwX2_opensSequence_0 ++ dktX2_opensSequence_1
theorem dksX2_opensSequence_0 : cX2_opensSequence.data.toList.drop 0 = dktX2_opensSequence_0 := by decide +kernel
theorem dksX2_opensSequence_1 : cX2_opensSequence.data.toList.drop 24 = dktX2_opensSequence_1 := dk_seg dksX2_opensSequence_0 24 rfl rfl
theorem dX2_opensSequence_0 : decode cX2_opensSequence 0 = .ok (.aload_n 0, 1) := dk_42 (dk_at dksX2_opensSequence_0 0 rfl rfl)
theorem dX2_opensSequence_1 : decode cX2_opensSequence 1 = .ok (.getfield 102, 3) := dk_180 0 102 (dk_at dksX2_opensSequence_0 1 rfl rfl)
theorem dX2_opensSequence_4 : decode cX2_opensSequence 4 = .ok (.iconst 1, 1) := dk_4 (dk_at dksX2_opensSequence_0 4 rfl rfl)
theorem dX2_opensSequence_5 : decode cX2_opensSequence 5 = .ok (.aload_n 0, 1) := dk_42 (dk_at dksX2_opensSequence_0 5 rfl rfl)
theorem dX2_opensSequence_6 : decode cX2_opensSequence 6 = .ok (.getfield 244, 3) := dk_180 0 244 (dk_at dksX2_opensSequence_0 6 rfl rfl)
theorem dX2_opensSequence_9 : decode cX2_opensSequence 9 = .ok (.iadd, 1) := dk_96 (dk_at dksX2_opensSequence_0 9 rfl rfl)
theorem dX2_opensSequence_10 : decode cX2_opensSequence 10 = .ok (.iconst 0, 1) := dk_3 (dk_at dksX2_opensSequence_0 10 rfl rfl)
theorem dX2_opensSequence_11 : decode cX2_opensSequence 11 = .ok (.bastore, 1) := dk_84 (dk_at dksX2_opensSequence_0 11 rfl rfl)
theorem dX2_opensSequence_12 : decode cX2_opensSequence 12 = .ok (.aload_n 0, 1) := dk_42 (dk_at dksX2_opensSequence_0 12 rfl rfl)
theorem dX2_opensSequence_13 : decode cX2_opensSequence 13 = .ok (.getfield 102, 3) := dk_180 0 102 (dk_at dksX2_opensSequence_0 13 rfl rfl)
theorem dX2_opensSequence_16 : decode cX2_opensSequence 16 = .ok (.bipush 11, 2) := dk_16 11 (dk_at dksX2_opensSequence_0 16 rfl rfl)
theorem dX2_opensSequence_18 : decode cX2_opensSequence 18 = .ok (.aload_n 0, 1) := dk_42 (dk_at dksX2_opensSequence_0 18 rfl rfl)
theorem dX2_opensSequence_19 : decode cX2_opensSequence 19 = .ok (.getfield 244, 3) := dk_180 0 244 (dk_at dksX2_opensSequence_0 19 rfl rfl)
theorem dX2_opensSequence_22 : decode cX2_opensSequence 22 = .ok (.iadd, 1) := dk_96 (dk_at dksX2_opensSequence_0 22 rfl rfl)
theorem dX2_opensSequence_23 : decode cX2_opensSequence 23 = .ok (.iconst 0, 1) := dk_3 (dk_at dksX2_opensSequence_0 23 rfl rfl)
theorem dX2_opensSequence_24 : decode cX2_opensSequence 24 = .ok (.bastore, 1) := dk_84 (dk_at dksX2_opensSequence_1 0 rfl rfl)
theorem dX2_opensSequence_25 : decode cX2_opensSequence 25 = .ok (.return_, 1) := dk_177 (dk_at dksX2_opensSequence_1 1 rfl rfl)
abbrev cX2_readBegin : ByteArray := prog_21_method_31_code
def yX2_readBegin : MethodName := ⟨RX2, "readBegin", "()V"⟩
def dkwX2_readBegin_2 : List UInt8 := [182, 0, 250, 42, 180, 0, 139, 154, 0, 7, 42, 182, 0, 254, 177]
abbrev dktX2_readBegin_2 : List UInt8 := dkwX2_readBegin_2 ++ []
def dkwX2_readBegin_1 : List UInt8 := [154, 0, 7, 4, 167, 0, 4, 3, 184, 0, 194, 96, 181, 0, 244, 42, 182, 0, 247, 167, 255, 215, 42, 3]
abbrev dktX2_readBegin_1 : List UInt8 := dkwX2_readBegin_1 ++ dktX2_readBegin_2
def dkwX2_readBegin_0 : List UInt8 := [42, 16, 123, 182, 0, 188, 153, 0, 38, 42, 182, 0, 191, 42, 89, 180, 0, 244, 42, 180, 0, 139]
abbrev dktX2_readBegin_0 : List UInt8 := dkwX2_readBegin_0 ++ dktX2_readBegin_1
theorem dksX2_readBegin_0 : cX2_readBegin.data.toList.drop 0 = dktX2_readBegin_0 := by decide +kernel
theorem dksX2_readBegin_1 : cX2_readBegin.data.toList.drop 22 = dktX2_readBegin_1 := dk_seg dksX2_readBegin_0 22 rfl rfl
theorem dksX2_readBegin_2 : cX2_readBegin.data.toList.drop 46 = dktX2_readBegin_2 := dk_seg dksX2_readBegin_1 24 rfl rfl
theorem dX2_readBegin_0 : decode cX2_readBegin 0 = .ok (.aload_n 0, 1) := dk_42 (dk_at dksX2_readBegin_0 0 rfl rfl)
theorem dX2_readBegin_1 : decode cX2_readBegin 1 = .ok (.bipush 123, 2) := dk_16 123 (dk_at dksX2_readBegin_0 1 rfl rfl)
theorem dX2_readBegin_3 : decode cX2_readBegin 3 = .ok (.invokevirtual 188, 3) := dk_182 0 188 (dk_at dksX2_readBegin_0 3 rfl rfl)
theorem dX2_readBegin_6 : decode cX2_readBegin 6 = .ok (.ifCond .eq 38, 3) := dk_153 0 38 (dk_at dksX2_readBegin_0 6 rfl rfl)
theorem dX2_readBegin_9 : decode cX2_readBegin 9 = .ok (.aload_n 0, 1) := dk_42 (dk_at dksX2_readBegin_0 9 rfl rfl)
theorem dX2_readBegin_10 : decode cX2_readBegin 10 = .ok (.invokevirtual 191, 3) := dk_182 0 191 (dk_at dksX2_readBegin_0 10 rfl rfl)
theorem dX2_readBegin_13 : decode cX2_readBegin 13 = .ok (.aload_n 0, 1) := dk_42 (dk_at dksX2_readBegin_0 13 rfl rfl)
theorem dX2_readBegin_14 : decode cX2_readBegin 14 = .ok (.dup, 1) := dk_89 (dk_at dksX2_readBegin_0 14 rfl rfl)
theorem dX2_readBegin_15 : decode cX2_readBegin 15 = .ok (.getfield 244, 3) := dk_180 0 244 (dk_at dksX2_readBegin_0 15 rfl rfl)
theorem dX2_readBegin_18 : decode cX2_readBegin 18 = .ok (.aload_n 0, 1) := dk_42 (dk_at dksX2_readBegin_0 18 rfl rfl)
theorem dX2_readBegin_19 : decode cX2_readBegin 19 = .ok (.getfield 139, 3) := dk_180 0 139 (dk_at dksX2_readBegin_0 19 rfl rfl)
theorem dX2_readBegin_22 : decode cX2_readBegin 22 = .ok (.ifCond .ne 7, 3) := dk_154 0 7 (dk_at dksX2_readBegin_1 0 rfl rfl)
theorem dX2_readBegin_25 : decode cX2_readBegin 25 = .ok (.iconst 1, 1) := dk_4 (dk_at dksX2_readBegin_1 3 rfl rfl)
theorem dX2_readBegin_26 : decode cX2_readBegin 26 = .ok (.goto 4, 3) := dk_167 0 4 (dk_at dksX2_readBegin_1 4 rfl rfl)
theorem dX2_readBegin_29 : decode cX2_readBegin 29 = .ok (.iconst 0, 1) := dk_3 (dk_at dksX2_readBegin_1 7 rfl rfl)
theorem dX2_readBegin_30 : decode cX2_readBegin 30 = .ok (.invokestatic 194, 3) := dk_184 0 194 (dk_at dksX2_readBegin_1 8 rfl rfl)
theorem dX2_readBegin_33 : decode cX2_readBegin 33 = .ok (.iadd, 1) := dk_96 (dk_at dksX2_readBegin_1 11 rfl rfl)
theorem dX2_readBegin_34 : decode cX2_readBegin 34 = .ok (.putfield 244, 3) := dk_181 0 244 (dk_at dksX2_readBegin_1 12 rfl rfl)
theorem dX2_readBegin_37 : decode cX2_readBegin 37 = .ok (.aload_n 0, 1) := dk_42 (dk_at dksX2_readBegin_1 15 rfl rfl)
theorem dX2_readBegin_38 : decode cX2_readBegin 38 = .ok (.invokevirtual 247, 3) := dk_182 0 247 (dk_at dksX2_readBegin_1 16 rfl rfl)
theorem dX2_readBegin_41 : decode cX2_readBegin 41 = .ok (.goto (-41), 3) := dk_167 255 215 (dk_at dksX2_readBegin_1 19 rfl rfl)
theorem dX2_readBegin_44 : decode cX2_readBegin 44 = .ok (.aload_n 0, 1) := dk_42 (dk_at dksX2_readBegin_1 22 rfl rfl)
theorem dX2_readBegin_45 : decode cX2_readBegin 45 = .ok (.iconst 0, 1) := dk_3 (dk_at dksX2_readBegin_1 23 rfl rfl)
theorem dX2_readBegin_46 : decode cX2_readBegin 46 = .ok (.invokevirtual 250, 3) := dk_182 0 250 (dk_at dksX2_readBegin_2 0 rfl rfl)
theorem dX2_readBegin_49 : decode cX2_readBegin 49 = .ok (.aload_n 0, 1) := dk_42 (dk_at dksX2_readBegin_2 3 rfl rfl)
theorem dX2_readBegin_50 : decode cX2_readBegin 50 = .ok (.getfield 139, 3) := dk_180 0 139 (dk_at dksX2_readBegin_2 4 rfl rfl)
theorem dX2_readBegin_53 : decode cX2_readBegin 53 = .ok (.ifCond .ne 7, 3) := dk_154 0 7 (dk_at dksX2_readBegin_2 7 rfl rfl)
theorem dX2_readBegin_56 : decode cX2_readBegin 56 = .ok (.aload_n 0, 1) := dk_42 (dk_at dksX2_readBegin_2 10 rfl rfl)
theorem dX2_readBegin_57 : decode cX2_readBegin 57 = .ok (.invokevirtual 254, 3) := dk_182 0 254 (dk_at dksX2_readBegin_2 11 rfl rfl)
theorem dX2_readBegin_60 : decode cX2_readBegin 60 = .ok (.return_, 1) := dk_177 (dk_at dksX2_readBegin_2 14 rfl rfl)
abbrev cX2_nests : ByteArray := prog_21_method_15_code
def yX2_nests : MethodName := ⟨RX2, "nests", "()V"⟩
def dkwX2_nests_1 : List UInt8 := [4, 96, 181, 0, 180, 42, 182, 0, 177, 177]
abbrev dktX2_nests_1 : List UInt8 := dkwX2_nests_1 ++ []
def dkwX2_nests_0 : List UInt8 := [42, 42, 180, 0, 180, 16, 8, 162, 0, 7, 4, 167, 0, 4, 3, 7, 182, 0, 165, 42, 89, 180, 0, 180]
abbrev dktX2_nests_0 : List UInt8 := dkwX2_nests_0 ++ dktX2_nests_1
theorem dksX2_nests_0 : cX2_nests.data.toList.drop 0 = dktX2_nests_0 := by decide +kernel
theorem dksX2_nests_1 : cX2_nests.data.toList.drop 24 = dktX2_nests_1 := dk_seg dksX2_nests_0 24 rfl rfl
theorem dX2_nests_0 : decode cX2_nests 0 = .ok (.aload_n 0, 1) := dk_42 (dk_at dksX2_nests_0 0 rfl rfl)
theorem dX2_nests_1 : decode cX2_nests 1 = .ok (.aload_n 0, 1) := dk_42 (dk_at dksX2_nests_0 1 rfl rfl)
theorem dX2_nests_2 : decode cX2_nests 2 = .ok (.getfield 180, 3) := dk_180 0 180 (dk_at dksX2_nests_0 2 rfl rfl)
theorem dX2_nests_5 : decode cX2_nests 5 = .ok (.bipush 8, 2) := dk_16 8 (dk_at dksX2_nests_0 5 rfl rfl)
theorem dX2_nests_7 : decode cX2_nests 7 = .ok (.if_icmp .ge 7, 3) := dk_162 0 7 (dk_at dksX2_nests_0 7 rfl rfl)
theorem dX2_nests_10 : decode cX2_nests 10 = .ok (.iconst 1, 1) := dk_4 (dk_at dksX2_nests_0 10 rfl rfl)
theorem dX2_nests_11 : decode cX2_nests 11 = .ok (.goto 4, 3) := dk_167 0 4 (dk_at dksX2_nests_0 11 rfl rfl)
theorem dX2_nests_14 : decode cX2_nests 14 = .ok (.iconst 0, 1) := dk_3 (dk_at dksX2_nests_0 14 rfl rfl)
theorem dX2_nests_15 : decode cX2_nests 15 = .ok (.iconst 4, 1) := dk_7 (dk_at dksX2_nests_0 15 rfl rfl)
theorem dX2_nests_16 : decode cX2_nests 16 = .ok (.invokevirtual 165, 3) := dk_182 0 165 (dk_at dksX2_nests_0 16 rfl rfl)
theorem dX2_nests_19 : decode cX2_nests 19 = .ok (.aload_n 0, 1) := dk_42 (dk_at dksX2_nests_0 19 rfl rfl)
theorem dX2_nests_20 : decode cX2_nests 20 = .ok (.dup, 1) := dk_89 (dk_at dksX2_nests_0 20 rfl rfl)
theorem dX2_nests_21 : decode cX2_nests 21 = .ok (.getfield 180, 3) := dk_180 0 180 (dk_at dksX2_nests_0 21 rfl rfl)
theorem dX2_nests_24 : decode cX2_nests 24 = .ok (.iconst 1, 1) := dk_4 (dk_at dksX2_nests_1 0 rfl rfl)
theorem dX2_nests_25 : decode cX2_nests 25 = .ok (.iadd, 1) := dk_96 (dk_at dksX2_nests_1 1 rfl rfl)
theorem dX2_nests_26 : decode cX2_nests 26 = .ok (.putfield 180, 3) := dk_181 0 180 (dk_at dksX2_nests_1 2 rfl rfl)
theorem dX2_nests_29 : decode cX2_nests 29 = .ok (.aload_n 0, 1) := dk_42 (dk_at dksX2_nests_1 5 rfl rfl)
theorem dX2_nests_30 : decode cX2_nests 30 = .ok (.invokevirtual 177, 3) := dk_182 0 177 (dk_at dksX2_nests_1 6 rfl rfl)
theorem dX2_nests_33 : decode cX2_nests 33 = .ok (.return_, 1) := dk_177 (dk_at dksX2_nests_1 9 rfl rfl)
abbrev cX2_flag : ByteArray := prog_21_method_4_code
def yX2_flag : MethodName := ⟨RX2, "flag", "(Z)I"⟩
def dkwX2_flag_0 : List UInt8 := [26, 153, 0, 7, 4, 167, 0, 4, 3, 172]
abbrev dktX2_flag_0 : List UInt8 := dkwX2_flag_0 ++ []
theorem dksX2_flag_0 : cX2_flag.data.toList.drop 0 = dktX2_flag_0 := by decide +kernel
theorem dX2_flag_0 : decode cX2_flag 0 = .ok (.iload_n 0, 1) := dk_26 (dk_at dksX2_flag_0 0 rfl rfl)
theorem dX2_flag_1 : decode cX2_flag 1 = .ok (.ifCond .eq 7, 3) := dk_153 0 7 (dk_at dksX2_flag_0 1 rfl rfl)
theorem dX2_flag_4 : decode cX2_flag 4 = .ok (.iconst 1, 1) := dk_4 (dk_at dksX2_flag_0 4 rfl rfl)
theorem dX2_flag_5 : decode cX2_flag 5 = .ok (.goto 4, 3) := dk_167 0 4 (dk_at dksX2_flag_0 5 rfl rfl)
theorem dX2_flag_8 : decode cX2_flag 8 = .ok (.iconst 0, 1) := dk_3 (dk_at dksX2_flag_0 8 rfl rfl)
theorem dX2_flag_9 : decode cX2_flag 9 = .ok (.ireturn, 1) := dk_172 (dk_at dksX2_flag_0 9 rfl rfl)
abbrev cX2_readCondition : ByteArray := prog_21_method_21_code
def yX2_readCondition : MethodName := ⟨RX2, "readCondition", "(Z)V"⟩
def dkwX2_readCondition_12 : List UInt8 := [177]
abbrev dktX2_readCondition_12 : List UInt8 := dkwX2_readCondition_12 ++ []
def dkwX2_readCondition_11 : List UInt8 := [62, 29, 7, 162, 0, 21, 42, 180, 0, 63, 29, 42, 180, 0, 48, 29, 47, 80, 132, 3, 1, 167, 255, 236]
abbrev dktX2_readCondition_11 : List UInt8 := dkwX2_readCondition_11 ++ dktX2_readCondition_12
def dkwX2_readCondition_10 : List UInt8 := [154, 0, 7, 4, 167, 0, 4, 3, 5, 182, 0, 165, 42, 180, 0, 139, 154, 0, 32, 42, 182, 0, 211, 3]
abbrev dktX2_readCondition_10 : List UInt8 := dkwX2_readCondition_10 ++ dktX2_readCondition_11
def dkwX2_readCondition_9 : List UInt8 := [154, 0, 7, 4, 167, 0, 4, 3, 61, 167, 255, 57, 42, 180, 0, 139, 154, 0, 20, 42, 42, 180, 0, 185]
abbrev dktX2_readCondition_9 : List UInt8 := dkwX2_readCondition_9 ++ dktX2_readCondition_10
def dkwX2_readCondition_8 : List UInt8 := [153, 0, 33, 42, 16, 124, 182, 0, 188, 153, 0, 7, 42, 182, 0, 211, 42, 182, 0, 177, 42, 180, 0, 139]
abbrev dktX2_readCondition_8 : List UInt8 := dkwX2_readCondition_8 ++ dktX2_readCondition_9
def dkwX2_readCondition_7 : List UInt8 := [16, 38, 182, 0, 188, 154, 0, 12, 42, 16, 124, 182, 0, 188, 153, 0, 7, 4, 167, 0, 4, 3, 61, 28]
abbrev dktX2_readCondition_7 : List UInt8 := dkwX2_readCondition_7 ++ dktX2_readCondition_8
def dkwX2_readCondition_6 : List UInt8 := [42, 180, 0, 185, 157, 0, 7, 27, 153, 0, 7, 4, 167, 0, 4, 3, 54, 4, 21, 4, 153, 0, 25, 42]
abbrev dktX2_readCondition_6 : List UInt8 := dkwX2_readCondition_6 ++ dktX2_readCondition_7
def dkwX2_readCondition_5 : List UInt8 := [181, 0, 185, 42, 89, 180, 0, 180, 4, 100, 181, 0, 180, 42, 182, 0, 205, 42, 182, 0, 177, 167, 255, 151]
abbrev dktX2_readCondition_5 : List UInt8 := dkwX2_readCondition_5 ++ dktX2_readCondition_6
def dkwX2_readCondition_4 : List UInt8 := [180, 0, 185, 104, 21, 4, 96, 47, 80, 132, 4, 1, 167, 255, 226, 42, 89, 180, 0, 185, 4, 100]
abbrev dktX2_readCondition_4 : List UInt8 := dkwX2_readCondition_4 ++ dktX2_readCondition_5
def dkwX2_readCondition_3 : List UInt8 := [182, 0, 211, 3, 54, 4, 21, 4, 7, 162, 0, 30, 42, 180, 0, 63, 21, 4, 42, 180, 0, 48, 7, 42]
abbrev dktX2_readCondition_3 : List UInt8 := dkwX2_readCondition_3 ++ dktX2_readCondition_4
def dkwX2_readCondition_2 : List UInt8 := [158, 0, 16, 42, 16, 41, 182, 0, 188, 153, 0, 7, 4, 167, 0, 4, 3, 62, 29, 153, 255, 222, 42]
abbrev dktX2_readCondition_2 : List UInt8 := dkwX2_readCondition_2 ++ dktX2_readCondition_3
def dkwX2_readCondition_1 : List UInt8 := [153, 0, 201, 42, 182, 0, 208, 4, 62, 29, 153, 0, 107, 42, 180, 0, 139, 154, 0, 100, 42, 180, 0, 185]
abbrev dktX2_readCondition_1 : List UInt8 := dkwX2_readCondition_1 ++ dktX2_readCondition_2
def dkwX2_readCondition_0 : List UInt8 := [42, 3, 181, 0, 185, 42, 182, 0, 198, 42, 180, 0, 139, 154, 0, 7, 4, 167, 0, 4, 3, 61, 28]
abbrev dktX2_readCondition_0 : List UInt8 := dkwX2_readCondition_0 ++ dktX2_readCondition_1
theorem dksX2_readCondition_0 : cX2_readCondition.data.toList.drop 0 = dktX2_readCondition_0 := by decide +kernel
theorem dksX2_readCondition_1 : cX2_readCondition.data.toList.drop 23 = dktX2_readCondition_1 := dk_seg dksX2_readCondition_0 23 rfl rfl
theorem dksX2_readCondition_2 : cX2_readCondition.data.toList.drop 47 = dktX2_readCondition_2 := dk_seg dksX2_readCondition_1 24 rfl rfl
theorem dksX2_readCondition_3 : cX2_readCondition.data.toList.drop 70 = dktX2_readCondition_3 := dk_seg dksX2_readCondition_2 23 rfl rfl
theorem dksX2_readCondition_4 : cX2_readCondition.data.toList.drop 94 = dktX2_readCondition_4 := dk_seg dksX2_readCondition_3 24 rfl rfl
theorem dksX2_readCondition_5 : cX2_readCondition.data.toList.drop 116 = dktX2_readCondition_5 := dk_seg dksX2_readCondition_4 22 rfl rfl
theorem dksX2_readCondition_6 : cX2_readCondition.data.toList.drop 140 = dktX2_readCondition_6 := dk_seg dksX2_readCondition_5 24 rfl rfl
theorem dksX2_readCondition_7 : cX2_readCondition.data.toList.drop 164 = dktX2_readCondition_7 := dk_seg dksX2_readCondition_6 24 rfl rfl
theorem dksX2_readCondition_8 : cX2_readCondition.data.toList.drop 188 = dktX2_readCondition_8 := dk_seg dksX2_readCondition_7 24 rfl rfl
theorem dksX2_readCondition_9 : cX2_readCondition.data.toList.drop 212 = dktX2_readCondition_9 := dk_seg dksX2_readCondition_8 24 rfl rfl
theorem dksX2_readCondition_10 : cX2_readCondition.data.toList.drop 236 = dktX2_readCondition_10 := dk_seg dksX2_readCondition_9 24 rfl rfl
theorem dksX2_readCondition_11 : cX2_readCondition.data.toList.drop 260 = dktX2_readCondition_11 := dk_seg dksX2_readCondition_10 24 rfl rfl
theorem dksX2_readCondition_12 : cX2_readCondition.data.toList.drop 284 = dktX2_readCondition_12 := dk_seg dksX2_readCondition_11 24 rfl rfl
theorem dX2_readCondition_0 : decode cX2_readCondition 0 = .ok (.aload_n 0, 1) := dk_42 (dk_at dksX2_readCondition_0 0 rfl rfl)
theorem dX2_readCondition_1 : decode cX2_readCondition 1 = .ok (.iconst 0, 1) := dk_3 (dk_at dksX2_readCondition_0 1 rfl rfl)
theorem dX2_readCondition_2 : decode cX2_readCondition 2 = .ok (.putfield 185, 3) := dk_181 0 185 (dk_at dksX2_readCondition_0 2 rfl rfl)
theorem dX2_readCondition_5 : decode cX2_readCondition 5 = .ok (.aload_n 0, 1) := dk_42 (dk_at dksX2_readCondition_0 5 rfl rfl)
theorem dX2_readCondition_6 : decode cX2_readCondition 6 = .ok (.invokevirtual 198, 3) := dk_182 0 198 (dk_at dksX2_readCondition_0 6 rfl rfl)
theorem dX2_readCondition_9 : decode cX2_readCondition 9 = .ok (.aload_n 0, 1) := dk_42 (dk_at dksX2_readCondition_0 9 rfl rfl)
theorem dX2_readCondition_10 : decode cX2_readCondition 10 = .ok (.getfield 139, 3) := dk_180 0 139 (dk_at dksX2_readCondition_0 10 rfl rfl)
theorem dX2_readCondition_13 : decode cX2_readCondition 13 = .ok (.ifCond .ne 7, 3) := dk_154 0 7 (dk_at dksX2_readCondition_0 13 rfl rfl)
theorem dX2_readCondition_16 : decode cX2_readCondition 16 = .ok (.iconst 1, 1) := dk_4 (dk_at dksX2_readCondition_0 16 rfl rfl)
theorem dX2_readCondition_17 : decode cX2_readCondition 17 = .ok (.goto 4, 3) := dk_167 0 4 (dk_at dksX2_readCondition_0 17 rfl rfl)
theorem dX2_readCondition_20 : decode cX2_readCondition 20 = .ok (.iconst 0, 1) := dk_3 (dk_at dksX2_readCondition_0 20 rfl rfl)
theorem dX2_readCondition_21 : decode cX2_readCondition 21 = .ok (.istore_n 2, 1) := dk_61 (dk_at dksX2_readCondition_0 21 rfl rfl)
theorem dX2_readCondition_22 : decode cX2_readCondition 22 = .ok (.iload_n 2, 1) := dk_28 (dk_at dksX2_readCondition_0 22 rfl rfl)
theorem dX2_readCondition_23 : decode cX2_readCondition 23 = .ok (.ifCond .eq 201, 3) := dk_153 0 201 (dk_at dksX2_readCondition_1 0 rfl rfl)
theorem dX2_readCondition_26 : decode cX2_readCondition 26 = .ok (.aload_n 0, 1) := dk_42 (dk_at dksX2_readCondition_1 3 rfl rfl)
theorem dX2_readCondition_27 : decode cX2_readCondition 27 = .ok (.invokevirtual 208, 3) := dk_182 0 208 (dk_at dksX2_readCondition_1 4 rfl rfl)
theorem dX2_readCondition_30 : decode cX2_readCondition 30 = .ok (.iconst 1, 1) := dk_4 (dk_at dksX2_readCondition_1 7 rfl rfl)
theorem dX2_readCondition_31 : decode cX2_readCondition 31 = .ok (.istore_n 3, 1) := dk_62 (dk_at dksX2_readCondition_1 8 rfl rfl)
theorem dX2_readCondition_32 : decode cX2_readCondition 32 = .ok (.iload_n 3, 1) := dk_29 (dk_at dksX2_readCondition_1 9 rfl rfl)
theorem dX2_readCondition_33 : decode cX2_readCondition 33 = .ok (.ifCond .eq 107, 3) := dk_153 0 107 (dk_at dksX2_readCondition_1 10 rfl rfl)
theorem dX2_readCondition_36 : decode cX2_readCondition 36 = .ok (.aload_n 0, 1) := dk_42 (dk_at dksX2_readCondition_1 13 rfl rfl)
theorem dX2_readCondition_37 : decode cX2_readCondition 37 = .ok (.getfield 139, 3) := dk_180 0 139 (dk_at dksX2_readCondition_1 14 rfl rfl)
theorem dX2_readCondition_40 : decode cX2_readCondition 40 = .ok (.ifCond .ne 100, 3) := dk_154 0 100 (dk_at dksX2_readCondition_1 17 rfl rfl)
theorem dX2_readCondition_43 : decode cX2_readCondition 43 = .ok (.aload_n 0, 1) := dk_42 (dk_at dksX2_readCondition_1 20 rfl rfl)
theorem dX2_readCondition_44 : decode cX2_readCondition 44 = .ok (.getfield 185, 3) := dk_180 0 185 (dk_at dksX2_readCondition_1 21 rfl rfl)
theorem dX2_readCondition_47 : decode cX2_readCondition 47 = .ok (.ifCond .le 16, 3) := dk_158 0 16 (dk_at dksX2_readCondition_2 0 rfl rfl)
theorem dX2_readCondition_50 : decode cX2_readCondition 50 = .ok (.aload_n 0, 1) := dk_42 (dk_at dksX2_readCondition_2 3 rfl rfl)
theorem dX2_readCondition_51 : decode cX2_readCondition 51 = .ok (.bipush 41, 2) := dk_16 41 (dk_at dksX2_readCondition_2 4 rfl rfl)
theorem dX2_readCondition_53 : decode cX2_readCondition 53 = .ok (.invokevirtual 188, 3) := dk_182 0 188 (dk_at dksX2_readCondition_2 6 rfl rfl)
theorem dX2_readCondition_56 : decode cX2_readCondition 56 = .ok (.ifCond .eq 7, 3) := dk_153 0 7 (dk_at dksX2_readCondition_2 9 rfl rfl)
theorem dX2_readCondition_59 : decode cX2_readCondition 59 = .ok (.iconst 1, 1) := dk_4 (dk_at dksX2_readCondition_2 12 rfl rfl)
theorem dX2_readCondition_60 : decode cX2_readCondition 60 = .ok (.goto 4, 3) := dk_167 0 4 (dk_at dksX2_readCondition_2 13 rfl rfl)
theorem dX2_readCondition_63 : decode cX2_readCondition 63 = .ok (.iconst 0, 1) := dk_3 (dk_at dksX2_readCondition_2 16 rfl rfl)
theorem dX2_readCondition_64 : decode cX2_readCondition 64 = .ok (.istore_n 3, 1) := dk_62 (dk_at dksX2_readCondition_2 17 rfl rfl)
theorem dX2_readCondition_65 : decode cX2_readCondition 65 = .ok (.iload_n 3, 1) := dk_29 (dk_at dksX2_readCondition_2 18 rfl rfl)
theorem dX2_readCondition_66 : decode cX2_readCondition 66 = .ok (.ifCond .eq (-34), 3) := dk_153 255 222 (dk_at dksX2_readCondition_2 19 rfl rfl)
theorem dX2_readCondition_69 : decode cX2_readCondition 69 = .ok (.aload_n 0, 1) := dk_42 (dk_at dksX2_readCondition_2 22 rfl rfl)
theorem dX2_readCondition_70 : decode cX2_readCondition 70 = .ok (.invokevirtual 211, 3) := dk_182 0 211 (dk_at dksX2_readCondition_3 0 rfl rfl)
theorem dX2_readCondition_73 : decode cX2_readCondition 73 = .ok (.iconst 0, 1) := dk_3 (dk_at dksX2_readCondition_3 3 rfl rfl)
theorem dX2_readCondition_74 : decode cX2_readCondition 74 = .ok (.istore 4, 2) := dk_54 4 (dk_at dksX2_readCondition_3 4 rfl rfl)
theorem dX2_readCondition_76 : decode cX2_readCondition 76 = .ok (.iload 4, 2) := dk_21 4 (dk_at dksX2_readCondition_3 6 rfl rfl)
theorem dX2_readCondition_78 : decode cX2_readCondition 78 = .ok (.iconst 4, 1) := dk_7 (dk_at dksX2_readCondition_3 8 rfl rfl)
theorem dX2_readCondition_79 : decode cX2_readCondition 79 = .ok (.if_icmp .ge 30, 3) := dk_162 0 30 (dk_at dksX2_readCondition_3 9 rfl rfl)
theorem dX2_readCondition_82 : decode cX2_readCondition 82 = .ok (.aload_n 0, 1) := dk_42 (dk_at dksX2_readCondition_3 12 rfl rfl)
theorem dX2_readCondition_83 : decode cX2_readCondition 83 = .ok (.getfield 63, 3) := dk_180 0 63 (dk_at dksX2_readCondition_3 13 rfl rfl)
theorem dX2_readCondition_86 : decode cX2_readCondition 86 = .ok (.iload 4, 2) := dk_21 4 (dk_at dksX2_readCondition_3 16 rfl rfl)
theorem dX2_readCondition_88 : decode cX2_readCondition 88 = .ok (.aload_n 0, 1) := dk_42 (dk_at dksX2_readCondition_3 18 rfl rfl)
theorem dX2_readCondition_89 : decode cX2_readCondition 89 = .ok (.getfield 48, 3) := dk_180 0 48 (dk_at dksX2_readCondition_3 19 rfl rfl)
theorem dX2_readCondition_92 : decode cX2_readCondition 92 = .ok (.iconst 4, 1) := dk_7 (dk_at dksX2_readCondition_3 22 rfl rfl)
theorem dX2_readCondition_93 : decode cX2_readCondition 93 = .ok (.aload_n 0, 1) := dk_42 (dk_at dksX2_readCondition_3 23 rfl rfl)
theorem dX2_readCondition_94 : decode cX2_readCondition 94 = .ok (.getfield 185, 3) := dk_180 0 185 (dk_at dksX2_readCondition_4 0 rfl rfl)
theorem dX2_readCondition_97 : decode cX2_readCondition 97 = .ok (.imul, 1) := dk_104 (dk_at dksX2_readCondition_4 3 rfl rfl)
theorem dX2_readCondition_98 : decode cX2_readCondition 98 = .ok (.iload 4, 2) := dk_21 4 (dk_at dksX2_readCondition_4 4 rfl rfl)
theorem dX2_readCondition_100 : decode cX2_readCondition 100 = .ok (.iadd, 1) := dk_96 (dk_at dksX2_readCondition_4 6 rfl rfl)
theorem dX2_readCondition_101 : decode cX2_readCondition 101 = .ok (.laload, 1) := dk_47 (dk_at dksX2_readCondition_4 7 rfl rfl)
theorem dX2_readCondition_102 : decode cX2_readCondition 102 = .ok (.lastore, 1) := dk_80 (dk_at dksX2_readCondition_4 8 rfl rfl)
theorem dX2_readCondition_103 : decode cX2_readCondition 103 = .ok (.iinc 4 1, 3) := dk_132 4 1 (dk_at dksX2_readCondition_4 9 rfl rfl)
theorem dX2_readCondition_106 : decode cX2_readCondition 106 = .ok (.goto (-30), 3) := dk_167 255 226 (dk_at dksX2_readCondition_4 12 rfl rfl)
theorem dX2_readCondition_109 : decode cX2_readCondition 109 = .ok (.aload_n 0, 1) := dk_42 (dk_at dksX2_readCondition_4 15 rfl rfl)
theorem dX2_readCondition_110 : decode cX2_readCondition 110 = .ok (.dup, 1) := dk_89 (dk_at dksX2_readCondition_4 16 rfl rfl)
theorem dX2_readCondition_111 : decode cX2_readCondition 111 = .ok (.getfield 185, 3) := dk_180 0 185 (dk_at dksX2_readCondition_4 17 rfl rfl)
theorem dX2_readCondition_114 : decode cX2_readCondition 114 = .ok (.iconst 1, 1) := dk_4 (dk_at dksX2_readCondition_4 20 rfl rfl)
theorem dX2_readCondition_115 : decode cX2_readCondition 115 = .ok (.isub, 1) := dk_100 (dk_at dksX2_readCondition_4 21 rfl rfl)
theorem dX2_readCondition_116 : decode cX2_readCondition 116 = .ok (.putfield 185, 3) := dk_181 0 185 (dk_at dksX2_readCondition_5 0 rfl rfl)
theorem dX2_readCondition_119 : decode cX2_readCondition 119 = .ok (.aload_n 0, 1) := dk_42 (dk_at dksX2_readCondition_5 3 rfl rfl)
theorem dX2_readCondition_120 : decode cX2_readCondition 120 = .ok (.dup, 1) := dk_89 (dk_at dksX2_readCondition_5 4 rfl rfl)
theorem dX2_readCondition_121 : decode cX2_readCondition 121 = .ok (.getfield 180, 3) := dk_180 0 180 (dk_at dksX2_readCondition_5 5 rfl rfl)
theorem dX2_readCondition_124 : decode cX2_readCondition 124 = .ok (.iconst 1, 1) := dk_4 (dk_at dksX2_readCondition_5 8 rfl rfl)
theorem dX2_readCondition_125 : decode cX2_readCondition 125 = .ok (.isub, 1) := dk_100 (dk_at dksX2_readCondition_5 9 rfl rfl)
theorem dX2_readCondition_126 : decode cX2_readCondition 126 = .ok (.putfield 180, 3) := dk_181 0 180 (dk_at dksX2_readCondition_5 10 rfl rfl)
theorem dX2_readCondition_129 : decode cX2_readCondition 129 = .ok (.aload_n 0, 1) := dk_42 (dk_at dksX2_readCondition_5 13 rfl rfl)
theorem dX2_readCondition_130 : decode cX2_readCondition 130 = .ok (.invokevirtual 205, 3) := dk_182 0 205 (dk_at dksX2_readCondition_5 14 rfl rfl)
theorem dX2_readCondition_133 : decode cX2_readCondition 133 = .ok (.aload_n 0, 1) := dk_42 (dk_at dksX2_readCondition_5 17 rfl rfl)
theorem dX2_readCondition_134 : decode cX2_readCondition 134 = .ok (.invokevirtual 177, 3) := dk_182 0 177 (dk_at dksX2_readCondition_5 18 rfl rfl)
theorem dX2_readCondition_137 : decode cX2_readCondition 137 = .ok (.goto (-105), 3) := dk_167 255 151 (dk_at dksX2_readCondition_5 21 rfl rfl)
theorem dX2_readCondition_140 : decode cX2_readCondition 140 = .ok (.aload_n 0, 1) := dk_42 (dk_at dksX2_readCondition_6 0 rfl rfl)
theorem dX2_readCondition_141 : decode cX2_readCondition 141 = .ok (.getfield 185, 3) := dk_180 0 185 (dk_at dksX2_readCondition_6 1 rfl rfl)
theorem dX2_readCondition_144 : decode cX2_readCondition 144 = .ok (.ifCond .gt 7, 3) := dk_157 0 7 (dk_at dksX2_readCondition_6 4 rfl rfl)
theorem dX2_readCondition_147 : decode cX2_readCondition 147 = .ok (.iload_n 1, 1) := dk_27 (dk_at dksX2_readCondition_6 7 rfl rfl)
theorem dX2_readCondition_148 : decode cX2_readCondition 148 = .ok (.ifCond .eq 7, 3) := dk_153 0 7 (dk_at dksX2_readCondition_6 8 rfl rfl)
theorem dX2_readCondition_151 : decode cX2_readCondition 151 = .ok (.iconst 1, 1) := dk_4 (dk_at dksX2_readCondition_6 11 rfl rfl)
theorem dX2_readCondition_152 : decode cX2_readCondition 152 = .ok (.goto 4, 3) := dk_167 0 4 (dk_at dksX2_readCondition_6 12 rfl rfl)
theorem dX2_readCondition_155 : decode cX2_readCondition 155 = .ok (.iconst 0, 1) := dk_3 (dk_at dksX2_readCondition_6 15 rfl rfl)
theorem dX2_readCondition_156 : decode cX2_readCondition 156 = .ok (.istore 4, 2) := dk_54 4 (dk_at dksX2_readCondition_6 16 rfl rfl)
theorem dX2_readCondition_158 : decode cX2_readCondition 158 = .ok (.iload 4, 2) := dk_21 4 (dk_at dksX2_readCondition_6 18 rfl rfl)
theorem dX2_readCondition_160 : decode cX2_readCondition 160 = .ok (.ifCond .eq 25, 3) := dk_153 0 25 (dk_at dksX2_readCondition_6 20 rfl rfl)
theorem dX2_readCondition_163 : decode cX2_readCondition 163 = .ok (.aload_n 0, 1) := dk_42 (dk_at dksX2_readCondition_6 23 rfl rfl)
theorem dX2_readCondition_164 : decode cX2_readCondition 164 = .ok (.bipush 38, 2) := dk_16 38 (dk_at dksX2_readCondition_7 0 rfl rfl)
theorem dX2_readCondition_166 : decode cX2_readCondition 166 = .ok (.invokevirtual 188, 3) := dk_182 0 188 (dk_at dksX2_readCondition_7 2 rfl rfl)
theorem dX2_readCondition_169 : decode cX2_readCondition 169 = .ok (.ifCond .ne 12, 3) := dk_154 0 12 (dk_at dksX2_readCondition_7 5 rfl rfl)
theorem dX2_readCondition_172 : decode cX2_readCondition 172 = .ok (.aload_n 0, 1) := dk_42 (dk_at dksX2_readCondition_7 8 rfl rfl)
theorem dX2_readCondition_173 : decode cX2_readCondition 173 = .ok (.bipush 124, 2) := dk_16 124 (dk_at dksX2_readCondition_7 9 rfl rfl)
theorem dX2_readCondition_175 : decode cX2_readCondition 175 = .ok (.invokevirtual 188, 3) := dk_182 0 188 (dk_at dksX2_readCondition_7 11 rfl rfl)
theorem dX2_readCondition_178 : decode cX2_readCondition 178 = .ok (.ifCond .eq 7, 3) := dk_153 0 7 (dk_at dksX2_readCondition_7 14 rfl rfl)
theorem dX2_readCondition_181 : decode cX2_readCondition 181 = .ok (.iconst 1, 1) := dk_4 (dk_at dksX2_readCondition_7 17 rfl rfl)
theorem dX2_readCondition_182 : decode cX2_readCondition 182 = .ok (.goto 4, 3) := dk_167 0 4 (dk_at dksX2_readCondition_7 18 rfl rfl)
theorem dX2_readCondition_185 : decode cX2_readCondition 185 = .ok (.iconst 0, 1) := dk_3 (dk_at dksX2_readCondition_7 21 rfl rfl)
theorem dX2_readCondition_186 : decode cX2_readCondition 186 = .ok (.istore_n 2, 1) := dk_61 (dk_at dksX2_readCondition_7 22 rfl rfl)
theorem dX2_readCondition_187 : decode cX2_readCondition 187 = .ok (.iload_n 2, 1) := dk_28 (dk_at dksX2_readCondition_7 23 rfl rfl)
theorem dX2_readCondition_188 : decode cX2_readCondition 188 = .ok (.ifCond .eq 33, 3) := dk_153 0 33 (dk_at dksX2_readCondition_8 0 rfl rfl)
theorem dX2_readCondition_191 : decode cX2_readCondition 191 = .ok (.aload_n 0, 1) := dk_42 (dk_at dksX2_readCondition_8 3 rfl rfl)
theorem dX2_readCondition_192 : decode cX2_readCondition 192 = .ok (.bipush 124, 2) := dk_16 124 (dk_at dksX2_readCondition_8 4 rfl rfl)
theorem dX2_readCondition_194 : decode cX2_readCondition 194 = .ok (.invokevirtual 188, 3) := dk_182 0 188 (dk_at dksX2_readCondition_8 6 rfl rfl)
theorem dX2_readCondition_197 : decode cX2_readCondition 197 = .ok (.ifCond .eq 7, 3) := dk_153 0 7 (dk_at dksX2_readCondition_8 9 rfl rfl)
theorem dX2_readCondition_200 : decode cX2_readCondition 200 = .ok (.aload_n 0, 1) := dk_42 (dk_at dksX2_readCondition_8 12 rfl rfl)
theorem dX2_readCondition_201 : decode cX2_readCondition 201 = .ok (.invokevirtual 211, 3) := dk_182 0 211 (dk_at dksX2_readCondition_8 13 rfl rfl)
theorem dX2_readCondition_204 : decode cX2_readCondition 204 = .ok (.aload_n 0, 1) := dk_42 (dk_at dksX2_readCondition_8 16 rfl rfl)
theorem dX2_readCondition_205 : decode cX2_readCondition 205 = .ok (.invokevirtual 177, 3) := dk_182 0 177 (dk_at dksX2_readCondition_8 17 rfl rfl)
theorem dX2_readCondition_208 : decode cX2_readCondition 208 = .ok (.aload_n 0, 1) := dk_42 (dk_at dksX2_readCondition_8 20 rfl rfl)
theorem dX2_readCondition_209 : decode cX2_readCondition 209 = .ok (.getfield 139, 3) := dk_180 0 139 (dk_at dksX2_readCondition_8 21 rfl rfl)
theorem dX2_readCondition_212 : decode cX2_readCondition 212 = .ok (.ifCond .ne 7, 3) := dk_154 0 7 (dk_at dksX2_readCondition_9 0 rfl rfl)
theorem dX2_readCondition_215 : decode cX2_readCondition 215 = .ok (.iconst 1, 1) := dk_4 (dk_at dksX2_readCondition_9 3 rfl rfl)
theorem dX2_readCondition_216 : decode cX2_readCondition 216 = .ok (.goto 4, 3) := dk_167 0 4 (dk_at dksX2_readCondition_9 4 rfl rfl)
theorem dX2_readCondition_219 : decode cX2_readCondition 219 = .ok (.iconst 0, 1) := dk_3 (dk_at dksX2_readCondition_9 7 rfl rfl)
theorem dX2_readCondition_220 : decode cX2_readCondition 220 = .ok (.istore_n 2, 1) := dk_61 (dk_at dksX2_readCondition_9 8 rfl rfl)
theorem dX2_readCondition_221 : decode cX2_readCondition 221 = .ok (.goto (-199), 3) := dk_167 255 57 (dk_at dksX2_readCondition_9 9 rfl rfl)
theorem dX2_readCondition_224 : decode cX2_readCondition 224 = .ok (.aload_n 0, 1) := dk_42 (dk_at dksX2_readCondition_9 12 rfl rfl)
theorem dX2_readCondition_225 : decode cX2_readCondition 225 = .ok (.getfield 139, 3) := dk_180 0 139 (dk_at dksX2_readCondition_9 13 rfl rfl)
theorem dX2_readCondition_228 : decode cX2_readCondition 228 = .ok (.ifCond .ne 20, 3) := dk_154 0 20 (dk_at dksX2_readCondition_9 16 rfl rfl)
theorem dX2_readCondition_231 : decode cX2_readCondition 231 = .ok (.aload_n 0, 1) := dk_42 (dk_at dksX2_readCondition_9 19 rfl rfl)
theorem dX2_readCondition_232 : decode cX2_readCondition 232 = .ok (.aload_n 0, 1) := dk_42 (dk_at dksX2_readCondition_9 20 rfl rfl)
theorem dX2_readCondition_233 : decode cX2_readCondition 233 = .ok (.getfield 185, 3) := dk_180 0 185 (dk_at dksX2_readCondition_9 21 rfl rfl)
theorem dX2_readCondition_236 : decode cX2_readCondition 236 = .ok (.ifCond .ne 7, 3) := dk_154 0 7 (dk_at dksX2_readCondition_10 0 rfl rfl)
theorem dX2_readCondition_239 : decode cX2_readCondition 239 = .ok (.iconst 1, 1) := dk_4 (dk_at dksX2_readCondition_10 3 rfl rfl)
theorem dX2_readCondition_240 : decode cX2_readCondition 240 = .ok (.goto 4, 3) := dk_167 0 4 (dk_at dksX2_readCondition_10 4 rfl rfl)
theorem dX2_readCondition_243 : decode cX2_readCondition 243 = .ok (.iconst 0, 1) := dk_3 (dk_at dksX2_readCondition_10 7 rfl rfl)
theorem dX2_readCondition_244 : decode cX2_readCondition 244 = .ok (.iconst 2, 1) := dk_5 (dk_at dksX2_readCondition_10 8 rfl rfl)
theorem dX2_readCondition_245 : decode cX2_readCondition 245 = .ok (.invokevirtual 165, 3) := dk_182 0 165 (dk_at dksX2_readCondition_10 9 rfl rfl)
theorem dX2_readCondition_248 : decode cX2_readCondition 248 = .ok (.aload_n 0, 1) := dk_42 (dk_at dksX2_readCondition_10 12 rfl rfl)
theorem dX2_readCondition_249 : decode cX2_readCondition 249 = .ok (.getfield 139, 3) := dk_180 0 139 (dk_at dksX2_readCondition_10 13 rfl rfl)
theorem dX2_readCondition_252 : decode cX2_readCondition 252 = .ok (.ifCond .ne 32, 3) := dk_154 0 32 (dk_at dksX2_readCondition_10 16 rfl rfl)
theorem dX2_readCondition_255 : decode cX2_readCondition 255 = .ok (.aload_n 0, 1) := dk_42 (dk_at dksX2_readCondition_10 19 rfl rfl)
theorem dX2_readCondition_256 : decode cX2_readCondition 256 = .ok (.invokevirtual 211, 3) := dk_182 0 211 (dk_at dksX2_readCondition_10 20 rfl rfl)
theorem dX2_readCondition_259 : decode cX2_readCondition 259 = .ok (.iconst 0, 1) := dk_3 (dk_at dksX2_readCondition_10 23 rfl rfl)
theorem dX2_readCondition_260 : decode cX2_readCondition 260 = .ok (.istore_n 3, 1) := dk_62 (dk_at dksX2_readCondition_11 0 rfl rfl)
theorem dX2_readCondition_261 : decode cX2_readCondition 261 = .ok (.iload_n 3, 1) := dk_29 (dk_at dksX2_readCondition_11 1 rfl rfl)
theorem dX2_readCondition_262 : decode cX2_readCondition 262 = .ok (.iconst 4, 1) := dk_7 (dk_at dksX2_readCondition_11 2 rfl rfl)
theorem dX2_readCondition_263 : decode cX2_readCondition 263 = .ok (.if_icmp .ge 21, 3) := dk_162 0 21 (dk_at dksX2_readCondition_11 3 rfl rfl)
theorem dX2_readCondition_266 : decode cX2_readCondition 266 = .ok (.aload_n 0, 1) := dk_42 (dk_at dksX2_readCondition_11 6 rfl rfl)
theorem dX2_readCondition_267 : decode cX2_readCondition 267 = .ok (.getfield 63, 3) := dk_180 0 63 (dk_at dksX2_readCondition_11 7 rfl rfl)
theorem dX2_readCondition_270 : decode cX2_readCondition 270 = .ok (.iload_n 3, 1) := dk_29 (dk_at dksX2_readCondition_11 10 rfl rfl)
theorem dX2_readCondition_271 : decode cX2_readCondition 271 = .ok (.aload_n 0, 1) := dk_42 (dk_at dksX2_readCondition_11 11 rfl rfl)
theorem dX2_readCondition_272 : decode cX2_readCondition 272 = .ok (.getfield 48, 3) := dk_180 0 48 (dk_at dksX2_readCondition_11 12 rfl rfl)
theorem dX2_readCondition_275 : decode cX2_readCondition 275 = .ok (.iload_n 3, 1) := dk_29 (dk_at dksX2_readCondition_11 15 rfl rfl)
theorem dX2_readCondition_276 : decode cX2_readCondition 276 = .ok (.laload, 1) := dk_47 (dk_at dksX2_readCondition_11 16 rfl rfl)
theorem dX2_readCondition_277 : decode cX2_readCondition 277 = .ok (.lastore, 1) := dk_80 (dk_at dksX2_readCondition_11 17 rfl rfl)
theorem dX2_readCondition_278 : decode cX2_readCondition 278 = .ok (.iinc 3 1, 3) := dk_132 3 1 (dk_at dksX2_readCondition_11 18 rfl rfl)
theorem dX2_readCondition_281 : decode cX2_readCondition 281 = .ok (.goto (-20), 3) := dk_167 255 236 (dk_at dksX2_readCondition_11 21 rfl rfl)
theorem dX2_readCondition_284 : decode cX2_readCondition 284 = .ok (.return_, 1) := dk_177 (dk_at dksX2_readCondition_12 0 rfl rfl)
abbrev cX2_opensDepth : ByteArray := prog_21_method_17_code
def yX2_opensDepth : MethodName := ⟨RX2, "opensDepth", "()V"⟩
def dkwX2_opensDepth_1 : List UInt8 := [42, 180, 0, 185, 3, 84, 177]
abbrev dktX2_opensDepth_1 : List UInt8 := dkwX2_opensDepth_1 ++ []
def dkwX2_opensDepth_0 : List UInt8 := [42, 180, 0, 54, 42, 180, 0, 185, 3, 84, 42, 180, 0, 57, 42, 180, 0, 185, 3, 84, 42, 180, 0, 60]
abbrev dktX2_opensDepth_0 : List UInt8 := dkwX2_opensDepth_0 ++ dktX2_opensDepth_1
theorem dksX2_opensDepth_0 : cX2_opensDepth.data.toList.drop 0 = dktX2_opensDepth_0 := by decide +kernel
theorem dksX2_opensDepth_1 : cX2_opensDepth.data.toList.drop 24 = dktX2_opensDepth_1 := dk_seg dksX2_opensDepth_0 24 rfl rfl
theorem dX2_opensDepth_0 : decode cX2_opensDepth 0 = .ok (.aload_n 0, 1) := dk_42 (dk_at dksX2_opensDepth_0 0 rfl rfl)
theorem dX2_opensDepth_1 : decode cX2_opensDepth 1 = .ok (.getfield 54, 3) := dk_180 0 54 (dk_at dksX2_opensDepth_0 1 rfl rfl)
theorem dX2_opensDepth_4 : decode cX2_opensDepth 4 = .ok (.aload_n 0, 1) := dk_42 (dk_at dksX2_opensDepth_0 4 rfl rfl)
theorem dX2_opensDepth_5 : decode cX2_opensDepth 5 = .ok (.getfield 185, 3) := dk_180 0 185 (dk_at dksX2_opensDepth_0 5 rfl rfl)
theorem dX2_opensDepth_8 : decode cX2_opensDepth 8 = .ok (.iconst 0, 1) := dk_3 (dk_at dksX2_opensDepth_0 8 rfl rfl)
theorem dX2_opensDepth_9 : decode cX2_opensDepth 9 = .ok (.bastore, 1) := dk_84 (dk_at dksX2_opensDepth_0 9 rfl rfl)
theorem dX2_opensDepth_10 : decode cX2_opensDepth 10 = .ok (.aload_n 0, 1) := dk_42 (dk_at dksX2_opensDepth_0 10 rfl rfl)
theorem dX2_opensDepth_11 : decode cX2_opensDepth 11 = .ok (.getfield 57, 3) := dk_180 0 57 (dk_at dksX2_opensDepth_0 11 rfl rfl)
theorem dX2_opensDepth_14 : decode cX2_opensDepth 14 = .ok (.aload_n 0, 1) := dk_42 (dk_at dksX2_opensDepth_0 14 rfl rfl)
theorem dX2_opensDepth_15 : decode cX2_opensDepth 15 = .ok (.getfield 185, 3) := dk_180 0 185 (dk_at dksX2_opensDepth_0 15 rfl rfl)
theorem dX2_opensDepth_18 : decode cX2_opensDepth 18 = .ok (.iconst 0, 1) := dk_3 (dk_at dksX2_opensDepth_0 18 rfl rfl)
theorem dX2_opensDepth_19 : decode cX2_opensDepth 19 = .ok (.bastore, 1) := dk_84 (dk_at dksX2_opensDepth_0 19 rfl rfl)
theorem dX2_opensDepth_20 : decode cX2_opensDepth 20 = .ok (.aload_n 0, 1) := dk_42 (dk_at dksX2_opensDepth_0 20 rfl rfl)
theorem dX2_opensDepth_21 : decode cX2_opensDepth 21 = .ok (.getfield 60, 3) := dk_180 0 60 (dk_at dksX2_opensDepth_0 21 rfl rfl)
theorem dX2_opensDepth_24 : decode cX2_opensDepth 24 = .ok (.aload_n 0, 1) := dk_42 (dk_at dksX2_opensDepth_1 0 rfl rfl)
theorem dX2_opensDepth_25 : decode cX2_opensDepth 25 = .ok (.getfield 185, 3) := dk_180 0 185 (dk_at dksX2_opensDepth_1 1 rfl rfl)
theorem dX2_opensDepth_28 : decode cX2_opensDepth 28 = .ok (.iconst 0, 1) := dk_3 (dk_at dksX2_opensDepth_1 4 rfl rfl)
theorem dX2_opensDepth_29 : decode cX2_opensDepth 29 = .ok (.bastore, 1) := dk_84 (dk_at dksX2_opensDepth_1 5 rfl rfl)
theorem dX2_opensDepth_30 : decode cX2_opensDepth 30 = .ok (.return_, 1) := dk_177 (dk_at dksX2_opensDepth_1 6 rfl rfl)
abbrev cX2_readOperand : ByteArray := prog_21_method_20_code
def yX2_readOperand : MethodName := ⟨RX2, "readOperand", "()V"⟩
def dkwX2_readOperand_7 : List UInt8 := [182, 0, 205, 42, 182, 0, 177, 177]
abbrev dktX2_readOperand_7 : List UInt8 := dkwX2_readOperand_7 ++ []
def dkwX2_readOperand_6 : List UInt8 := [42, 180, 0, 139, 154, 0, 22, 42, 42, 42, 180, 0, 142, 182, 0, 151, 16, 97, 100, 182, 0, 201, 42]
abbrev dktX2_readOperand_6 : List UInt8 := dkwX2_readOperand_6 ++ dktX2_readOperand_7
def dkwX2_readOperand_5 : List UInt8 := [180, 0, 139, 154, 0, 21, 42, 42, 180, 0, 155, 4, 160, 0, 7, 4, 167, 0, 4, 3, 5, 182, 0, 165]
abbrev dktX2_readOperand_5 : List UInt8 := dkwX2_readOperand_5 ++ dktX2_readOperand_6
def dkwX2_readOperand_4 : List UInt8 := [167, 0, 4, 3, 60, 27, 153, 255, 159, 42, 182, 0, 198, 167, 255, 152, 3, 60, 167, 255, 147, 42]
abbrev dktX2_readOperand_4 : List UInt8 := dkwX2_readOperand_4 ++ dktX2_readOperand_5
def dkwX2_readOperand_3 : List UInt8 := [154, 0, 7, 4, 167, 0, 4, 3, 184, 0, 194, 96, 181, 0, 185, 42, 180, 0, 139, 154, 0, 7, 4]
abbrev dktX2_readOperand_3 : List UInt8 := dkwX2_readOperand_3 ++ dktX2_readOperand_4
def dkwX2_readOperand_2 : List UInt8 := [42, 16, 40, 182, 0, 188, 153, 0, 55, 42, 182, 0, 191, 42, 89, 180, 0, 185, 42, 180, 0, 139]
abbrev dktX2_readOperand_2 : List UInt8 := dkwX2_readOperand_2 ++ dktX2_readOperand_3
def dkwX2_readOperand_1 : List UInt8 := [180, 0, 60, 42, 180, 0, 185, 51, 154, 0, 7, 4, 167, 0, 4, 3, 84, 42, 182, 0, 177, 167, 255, 213]
abbrev dktX2_readOperand_1 : List UInt8 := dkwX2_readOperand_1 ++ dktX2_readOperand_2
def dkwX2_readOperand_0 : List UInt8 := [4, 60, 27, 153, 0, 111, 42, 16, 33, 182, 0, 188, 153, 0, 36, 42, 180, 0, 60, 42, 180, 0, 185, 42]
abbrev dktX2_readOperand_0 : List UInt8 := dkwX2_readOperand_0 ++ dktX2_readOperand_1
theorem dksX2_readOperand_0 : cX2_readOperand.data.toList.drop 0 = dktX2_readOperand_0 := by decide +kernel
theorem dksX2_readOperand_1 : cX2_readOperand.data.toList.drop 24 = dktX2_readOperand_1 := dk_seg dksX2_readOperand_0 24 rfl rfl
theorem dksX2_readOperand_2 : cX2_readOperand.data.toList.drop 48 = dktX2_readOperand_2 := dk_seg dksX2_readOperand_1 24 rfl rfl
theorem dksX2_readOperand_3 : cX2_readOperand.data.toList.drop 70 = dktX2_readOperand_3 := dk_seg dksX2_readOperand_2 22 rfl rfl
theorem dksX2_readOperand_4 : cX2_readOperand.data.toList.drop 93 = dktX2_readOperand_4 := dk_seg dksX2_readOperand_3 23 rfl rfl
theorem dksX2_readOperand_5 : cX2_readOperand.data.toList.drop 115 = dktX2_readOperand_5 := dk_seg dksX2_readOperand_4 22 rfl rfl
theorem dksX2_readOperand_6 : cX2_readOperand.data.toList.drop 139 = dktX2_readOperand_6 := dk_seg dksX2_readOperand_5 24 rfl rfl
theorem dksX2_readOperand_7 : cX2_readOperand.data.toList.drop 162 = dktX2_readOperand_7 := dk_seg dksX2_readOperand_6 23 rfl rfl
theorem dX2_readOperand_0 : decode cX2_readOperand 0 = .ok (.iconst 1, 1) := dk_4 (dk_at dksX2_readOperand_0 0 rfl rfl)
theorem dX2_readOperand_1 : decode cX2_readOperand 1 = .ok (.istore_n 1, 1) := dk_60 (dk_at dksX2_readOperand_0 1 rfl rfl)
theorem dX2_readOperand_2 : decode cX2_readOperand 2 = .ok (.iload_n 1, 1) := dk_27 (dk_at dksX2_readOperand_0 2 rfl rfl)
theorem dX2_readOperand_3 : decode cX2_readOperand 3 = .ok (.ifCond .eq 111, 3) := dk_153 0 111 (dk_at dksX2_readOperand_0 3 rfl rfl)
theorem dX2_readOperand_6 : decode cX2_readOperand 6 = .ok (.aload_n 0, 1) := dk_42 (dk_at dksX2_readOperand_0 6 rfl rfl)
theorem dX2_readOperand_7 : decode cX2_readOperand 7 = .ok (.bipush 33, 2) := dk_16 33 (dk_at dksX2_readOperand_0 7 rfl rfl)
theorem dX2_readOperand_9 : decode cX2_readOperand 9 = .ok (.invokevirtual 188, 3) := dk_182 0 188 (dk_at dksX2_readOperand_0 9 rfl rfl)
theorem dX2_readOperand_12 : decode cX2_readOperand 12 = .ok (.ifCond .eq 36, 3) := dk_153 0 36 (dk_at dksX2_readOperand_0 12 rfl rfl)
theorem dX2_readOperand_15 : decode cX2_readOperand 15 = .ok (.aload_n 0, 1) := dk_42 (dk_at dksX2_readOperand_0 15 rfl rfl)
theorem dX2_readOperand_16 : decode cX2_readOperand 16 = .ok (.getfield 60, 3) := dk_180 0 60 (dk_at dksX2_readOperand_0 16 rfl rfl)
theorem dX2_readOperand_19 : decode cX2_readOperand 19 = .ok (.aload_n 0, 1) := dk_42 (dk_at dksX2_readOperand_0 19 rfl rfl)
theorem dX2_readOperand_20 : decode cX2_readOperand 20 = .ok (.getfield 185, 3) := dk_180 0 185 (dk_at dksX2_readOperand_0 20 rfl rfl)
theorem dX2_readOperand_23 : decode cX2_readOperand 23 = .ok (.aload_n 0, 1) := dk_42 (dk_at dksX2_readOperand_0 23 rfl rfl)
theorem dX2_readOperand_24 : decode cX2_readOperand 24 = .ok (.getfield 60, 3) := dk_180 0 60 (dk_at dksX2_readOperand_1 0 rfl rfl)
theorem dX2_readOperand_27 : decode cX2_readOperand 27 = .ok (.aload_n 0, 1) := dk_42 (dk_at dksX2_readOperand_1 3 rfl rfl)
theorem dX2_readOperand_28 : decode cX2_readOperand 28 = .ok (.getfield 185, 3) := dk_180 0 185 (dk_at dksX2_readOperand_1 4 rfl rfl)
theorem dX2_readOperand_31 : decode cX2_readOperand 31 = .ok (.baload, 1) := dk_51 (dk_at dksX2_readOperand_1 7 rfl rfl)
theorem dX2_readOperand_32 : decode cX2_readOperand 32 = .ok (.ifCond .ne 7, 3) := dk_154 0 7 (dk_at dksX2_readOperand_1 8 rfl rfl)
theorem dX2_readOperand_35 : decode cX2_readOperand 35 = .ok (.iconst 1, 1) := dk_4 (dk_at dksX2_readOperand_1 11 rfl rfl)
theorem dX2_readOperand_36 : decode cX2_readOperand 36 = .ok (.goto 4, 3) := dk_167 0 4 (dk_at dksX2_readOperand_1 12 rfl rfl)
theorem dX2_readOperand_39 : decode cX2_readOperand 39 = .ok (.iconst 0, 1) := dk_3 (dk_at dksX2_readOperand_1 15 rfl rfl)
theorem dX2_readOperand_40 : decode cX2_readOperand 40 = .ok (.bastore, 1) := dk_84 (dk_at dksX2_readOperand_1 16 rfl rfl)
theorem dX2_readOperand_41 : decode cX2_readOperand 41 = .ok (.aload_n 0, 1) := dk_42 (dk_at dksX2_readOperand_1 17 rfl rfl)
theorem dX2_readOperand_42 : decode cX2_readOperand 42 = .ok (.invokevirtual 177, 3) := dk_182 0 177 (dk_at dksX2_readOperand_1 18 rfl rfl)
theorem dX2_readOperand_45 : decode cX2_readOperand 45 = .ok (.goto (-43), 3) := dk_167 255 213 (dk_at dksX2_readOperand_1 21 rfl rfl)
theorem dX2_readOperand_48 : decode cX2_readOperand 48 = .ok (.aload_n 0, 1) := dk_42 (dk_at dksX2_readOperand_2 0 rfl rfl)
theorem dX2_readOperand_49 : decode cX2_readOperand 49 = .ok (.bipush 40, 2) := dk_16 40 (dk_at dksX2_readOperand_2 1 rfl rfl)
theorem dX2_readOperand_51 : decode cX2_readOperand 51 = .ok (.invokevirtual 188, 3) := dk_182 0 188 (dk_at dksX2_readOperand_2 3 rfl rfl)
theorem dX2_readOperand_54 : decode cX2_readOperand 54 = .ok (.ifCond .eq 55, 3) := dk_153 0 55 (dk_at dksX2_readOperand_2 6 rfl rfl)
theorem dX2_readOperand_57 : decode cX2_readOperand 57 = .ok (.aload_n 0, 1) := dk_42 (dk_at dksX2_readOperand_2 9 rfl rfl)
theorem dX2_readOperand_58 : decode cX2_readOperand 58 = .ok (.invokevirtual 191, 3) := dk_182 0 191 (dk_at dksX2_readOperand_2 10 rfl rfl)
theorem dX2_readOperand_61 : decode cX2_readOperand 61 = .ok (.aload_n 0, 1) := dk_42 (dk_at dksX2_readOperand_2 13 rfl rfl)
theorem dX2_readOperand_62 : decode cX2_readOperand 62 = .ok (.dup, 1) := dk_89 (dk_at dksX2_readOperand_2 14 rfl rfl)
theorem dX2_readOperand_63 : decode cX2_readOperand 63 = .ok (.getfield 185, 3) := dk_180 0 185 (dk_at dksX2_readOperand_2 15 rfl rfl)
theorem dX2_readOperand_66 : decode cX2_readOperand 66 = .ok (.aload_n 0, 1) := dk_42 (dk_at dksX2_readOperand_2 18 rfl rfl)
theorem dX2_readOperand_67 : decode cX2_readOperand 67 = .ok (.getfield 139, 3) := dk_180 0 139 (dk_at dksX2_readOperand_2 19 rfl rfl)
theorem dX2_readOperand_70 : decode cX2_readOperand 70 = .ok (.ifCond .ne 7, 3) := dk_154 0 7 (dk_at dksX2_readOperand_3 0 rfl rfl)
theorem dX2_readOperand_73 : decode cX2_readOperand 73 = .ok (.iconst 1, 1) := dk_4 (dk_at dksX2_readOperand_3 3 rfl rfl)
theorem dX2_readOperand_74 : decode cX2_readOperand 74 = .ok (.goto 4, 3) := dk_167 0 4 (dk_at dksX2_readOperand_3 4 rfl rfl)
theorem dX2_readOperand_77 : decode cX2_readOperand 77 = .ok (.iconst 0, 1) := dk_3 (dk_at dksX2_readOperand_3 7 rfl rfl)
theorem dX2_readOperand_78 : decode cX2_readOperand 78 = .ok (.invokestatic 194, 3) := dk_184 0 194 (dk_at dksX2_readOperand_3 8 rfl rfl)
theorem dX2_readOperand_81 : decode cX2_readOperand 81 = .ok (.iadd, 1) := dk_96 (dk_at dksX2_readOperand_3 11 rfl rfl)
theorem dX2_readOperand_82 : decode cX2_readOperand 82 = .ok (.putfield 185, 3) := dk_181 0 185 (dk_at dksX2_readOperand_3 12 rfl rfl)
theorem dX2_readOperand_85 : decode cX2_readOperand 85 = .ok (.aload_n 0, 1) := dk_42 (dk_at dksX2_readOperand_3 15 rfl rfl)
theorem dX2_readOperand_86 : decode cX2_readOperand 86 = .ok (.getfield 139, 3) := dk_180 0 139 (dk_at dksX2_readOperand_3 16 rfl rfl)
theorem dX2_readOperand_89 : decode cX2_readOperand 89 = .ok (.ifCond .ne 7, 3) := dk_154 0 7 (dk_at dksX2_readOperand_3 19 rfl rfl)
theorem dX2_readOperand_92 : decode cX2_readOperand 92 = .ok (.iconst 1, 1) := dk_4 (dk_at dksX2_readOperand_3 22 rfl rfl)
theorem dX2_readOperand_93 : decode cX2_readOperand 93 = .ok (.goto 4, 3) := dk_167 0 4 (dk_at dksX2_readOperand_4 0 rfl rfl)
theorem dX2_readOperand_96 : decode cX2_readOperand 96 = .ok (.iconst 0, 1) := dk_3 (dk_at dksX2_readOperand_4 3 rfl rfl)
theorem dX2_readOperand_97 : decode cX2_readOperand 97 = .ok (.istore_n 1, 1) := dk_60 (dk_at dksX2_readOperand_4 4 rfl rfl)
theorem dX2_readOperand_98 : decode cX2_readOperand 98 = .ok (.iload_n 1, 1) := dk_27 (dk_at dksX2_readOperand_4 5 rfl rfl)
theorem dX2_readOperand_99 : decode cX2_readOperand 99 = .ok (.ifCond .eq (-97), 3) := dk_153 255 159 (dk_at dksX2_readOperand_4 6 rfl rfl)
theorem dX2_readOperand_102 : decode cX2_readOperand 102 = .ok (.aload_n 0, 1) := dk_42 (dk_at dksX2_readOperand_4 9 rfl rfl)
theorem dX2_readOperand_103 : decode cX2_readOperand 103 = .ok (.invokevirtual 198, 3) := dk_182 0 198 (dk_at dksX2_readOperand_4 10 rfl rfl)
theorem dX2_readOperand_106 : decode cX2_readOperand 106 = .ok (.goto (-104), 3) := dk_167 255 152 (dk_at dksX2_readOperand_4 13 rfl rfl)
theorem dX2_readOperand_109 : decode cX2_readOperand 109 = .ok (.iconst 0, 1) := dk_3 (dk_at dksX2_readOperand_4 16 rfl rfl)
theorem dX2_readOperand_110 : decode cX2_readOperand 110 = .ok (.istore_n 1, 1) := dk_60 (dk_at dksX2_readOperand_4 17 rfl rfl)
theorem dX2_readOperand_111 : decode cX2_readOperand 111 = .ok (.goto (-109), 3) := dk_167 255 147 (dk_at dksX2_readOperand_4 18 rfl rfl)
theorem dX2_readOperand_114 : decode cX2_readOperand 114 = .ok (.aload_n 0, 1) := dk_42 (dk_at dksX2_readOperand_4 21 rfl rfl)
theorem dX2_readOperand_115 : decode cX2_readOperand 115 = .ok (.getfield 139, 3) := dk_180 0 139 (dk_at dksX2_readOperand_5 0 rfl rfl)
theorem dX2_readOperand_118 : decode cX2_readOperand 118 = .ok (.ifCond .ne 21, 3) := dk_154 0 21 (dk_at dksX2_readOperand_5 3 rfl rfl)
theorem dX2_readOperand_121 : decode cX2_readOperand 121 = .ok (.aload_n 0, 1) := dk_42 (dk_at dksX2_readOperand_5 6 rfl rfl)
theorem dX2_readOperand_122 : decode cX2_readOperand 122 = .ok (.aload_n 0, 1) := dk_42 (dk_at dksX2_readOperand_5 7 rfl rfl)
theorem dX2_readOperand_123 : decode cX2_readOperand 123 = .ok (.getfield 155, 3) := dk_180 0 155 (dk_at dksX2_readOperand_5 8 rfl rfl)
theorem dX2_readOperand_126 : decode cX2_readOperand 126 = .ok (.iconst 1, 1) := dk_4 (dk_at dksX2_readOperand_5 11 rfl rfl)
theorem dX2_readOperand_127 : decode cX2_readOperand 127 = .ok (.if_icmp .ne 7, 3) := dk_160 0 7 (dk_at dksX2_readOperand_5 12 rfl rfl)
theorem dX2_readOperand_130 : decode cX2_readOperand 130 = .ok (.iconst 1, 1) := dk_4 (dk_at dksX2_readOperand_5 15 rfl rfl)
theorem dX2_readOperand_131 : decode cX2_readOperand 131 = .ok (.goto 4, 3) := dk_167 0 4 (dk_at dksX2_readOperand_5 16 rfl rfl)
theorem dX2_readOperand_134 : decode cX2_readOperand 134 = .ok (.iconst 0, 1) := dk_3 (dk_at dksX2_readOperand_5 19 rfl rfl)
theorem dX2_readOperand_135 : decode cX2_readOperand 135 = .ok (.iconst 2, 1) := dk_5 (dk_at dksX2_readOperand_5 20 rfl rfl)
theorem dX2_readOperand_136 : decode cX2_readOperand 136 = .ok (.invokevirtual 165, 3) := dk_182 0 165 (dk_at dksX2_readOperand_5 21 rfl rfl)
theorem dX2_readOperand_139 : decode cX2_readOperand 139 = .ok (.aload_n 0, 1) := dk_42 (dk_at dksX2_readOperand_6 0 rfl rfl)
theorem dX2_readOperand_140 : decode cX2_readOperand 140 = .ok (.getfield 139, 3) := dk_180 0 139 (dk_at dksX2_readOperand_6 1 rfl rfl)
theorem dX2_readOperand_143 : decode cX2_readOperand 143 = .ok (.ifCond .ne 22, 3) := dk_154 0 22 (dk_at dksX2_readOperand_6 4 rfl rfl)
theorem dX2_readOperand_146 : decode cX2_readOperand 146 = .ok (.aload_n 0, 1) := dk_42 (dk_at dksX2_readOperand_6 7 rfl rfl)
theorem dX2_readOperand_147 : decode cX2_readOperand 147 = .ok (.aload_n 0, 1) := dk_42 (dk_at dksX2_readOperand_6 8 rfl rfl)
theorem dX2_readOperand_148 : decode cX2_readOperand 148 = .ok (.aload_n 0, 1) := dk_42 (dk_at dksX2_readOperand_6 9 rfl rfl)
theorem dX2_readOperand_149 : decode cX2_readOperand 149 = .ok (.getfield 142, 3) := dk_180 0 142 (dk_at dksX2_readOperand_6 10 rfl rfl)
theorem dX2_readOperand_152 : decode cX2_readOperand 152 = .ok (.invokevirtual 151, 3) := dk_182 0 151 (dk_at dksX2_readOperand_6 13 rfl rfl)
theorem dX2_readOperand_155 : decode cX2_readOperand 155 = .ok (.bipush 97, 2) := dk_16 97 (dk_at dksX2_readOperand_6 16 rfl rfl)
theorem dX2_readOperand_157 : decode cX2_readOperand 157 = .ok (.isub, 1) := dk_100 (dk_at dksX2_readOperand_6 18 rfl rfl)
theorem dX2_readOperand_158 : decode cX2_readOperand 158 = .ok (.invokevirtual 201, 3) := dk_182 0 201 (dk_at dksX2_readOperand_6 19 rfl rfl)
theorem dX2_readOperand_161 : decode cX2_readOperand 161 = .ok (.aload_n 0, 1) := dk_42 (dk_at dksX2_readOperand_6 22 rfl rfl)
theorem dX2_readOperand_162 : decode cX2_readOperand 162 = .ok (.invokevirtual 205, 3) := dk_182 0 205 (dk_at dksX2_readOperand_7 0 rfl rfl)
theorem dX2_readOperand_165 : decode cX2_readOperand 165 = .ok (.aload_n 0, 1) := dk_42 (dk_at dksX2_readOperand_7 3 rfl rfl)
theorem dX2_readOperand_166 : decode cX2_readOperand 166 = .ok (.invokevirtual 177, 3) := dk_182 0 177 (dk_at dksX2_readOperand_7 4 rfl rfl)
theorem dX2_readOperand_169 : decode cX2_readOperand 169 = .ok (.return_, 1) := dk_177 (dk_at dksX2_readOperand_7 7 rfl rfl)
abbrev cX2_wires : ByteArray := prog_21_method_16_code
def yX2_wires : MethodName := ⟨RX2, "wires", "(I)V"⟩
def dkwX2_wires_2 : List UInt8 := [132, 2, 1, 167, 255, 208, 177]
abbrev dktX2_wires_2 : List UInt8 := dkwX2_wires_2 ++ []
def dkwX2_wires_1 : List UInt8 := [167, 0, 22, 28, 27, 16, 6, 100, 122, 4, 126, 4, 160, 0, 9, 20, 0, 183, 167, 0, 4, 9, 80]
abbrev dktX2_wires_1 : List UInt8 := dkwX2_wires_1 ++ dktX2_wires_2
def dkwX2_wires_0 : List UInt8 := [3, 61, 28, 7, 162, 0, 49, 42, 180, 0, 63, 28, 27, 16, 6, 162, 0, 12, 42, 180, 0, 78, 27, 47]
abbrev dktX2_wires_0 : List UInt8 := dkwX2_wires_0 ++ dktX2_wires_1
theorem dksX2_wires_0 : cX2_wires.data.toList.drop 0 = dktX2_wires_0 := by decide +kernel
theorem dksX2_wires_1 : cX2_wires.data.toList.drop 24 = dktX2_wires_1 := dk_seg dksX2_wires_0 24 rfl rfl
theorem dksX2_wires_2 : cX2_wires.data.toList.drop 47 = dktX2_wires_2 := dk_seg dksX2_wires_1 23 rfl rfl
theorem dX2_wires_0 : decode cX2_wires 0 = .ok (.iconst 0, 1) := dk_3 (dk_at dksX2_wires_0 0 rfl rfl)
theorem dX2_wires_1 : decode cX2_wires 1 = .ok (.istore_n 2, 1) := dk_61 (dk_at dksX2_wires_0 1 rfl rfl)
theorem dX2_wires_2 : decode cX2_wires 2 = .ok (.iload_n 2, 1) := dk_28 (dk_at dksX2_wires_0 2 rfl rfl)
theorem dX2_wires_3 : decode cX2_wires 3 = .ok (.iconst 4, 1) := dk_7 (dk_at dksX2_wires_0 3 rfl rfl)
theorem dX2_wires_4 : decode cX2_wires 4 = .ok (.if_icmp .ge 49, 3) := dk_162 0 49 (dk_at dksX2_wires_0 4 rfl rfl)
theorem dX2_wires_7 : decode cX2_wires 7 = .ok (.aload_n 0, 1) := dk_42 (dk_at dksX2_wires_0 7 rfl rfl)
theorem dX2_wires_8 : decode cX2_wires 8 = .ok (.getfield 63, 3) := dk_180 0 63 (dk_at dksX2_wires_0 8 rfl rfl)
theorem dX2_wires_11 : decode cX2_wires 11 = .ok (.iload_n 2, 1) := dk_28 (dk_at dksX2_wires_0 11 rfl rfl)
theorem dX2_wires_12 : decode cX2_wires 12 = .ok (.iload_n 1, 1) := dk_27 (dk_at dksX2_wires_0 12 rfl rfl)
theorem dX2_wires_13 : decode cX2_wires 13 = .ok (.bipush 6, 2) := dk_16 6 (dk_at dksX2_wires_0 13 rfl rfl)
theorem dX2_wires_15 : decode cX2_wires 15 = .ok (.if_icmp .ge 12, 3) := dk_162 0 12 (dk_at dksX2_wires_0 15 rfl rfl)
theorem dX2_wires_18 : decode cX2_wires 18 = .ok (.aload_n 0, 1) := dk_42 (dk_at dksX2_wires_0 18 rfl rfl)
theorem dX2_wires_19 : decode cX2_wires 19 = .ok (.getfield 78, 3) := dk_180 0 78 (dk_at dksX2_wires_0 19 rfl rfl)
theorem dX2_wires_22 : decode cX2_wires 22 = .ok (.iload_n 1, 1) := dk_27 (dk_at dksX2_wires_0 22 rfl rfl)
theorem dX2_wires_23 : decode cX2_wires 23 = .ok (.laload, 1) := dk_47 (dk_at dksX2_wires_0 23 rfl rfl)
theorem dX2_wires_24 : decode cX2_wires 24 = .ok (.goto 22, 3) := dk_167 0 22 (dk_at dksX2_wires_1 0 rfl rfl)
theorem dX2_wires_27 : decode cX2_wires 27 = .ok (.iload_n 2, 1) := dk_28 (dk_at dksX2_wires_1 3 rfl rfl)
theorem dX2_wires_28 : decode cX2_wires 28 = .ok (.iload_n 1, 1) := dk_27 (dk_at dksX2_wires_1 4 rfl rfl)
theorem dX2_wires_29 : decode cX2_wires 29 = .ok (.bipush 6, 2) := dk_16 6 (dk_at dksX2_wires_1 5 rfl rfl)
theorem dX2_wires_31 : decode cX2_wires 31 = .ok (.isub, 1) := dk_100 (dk_at dksX2_wires_1 7 rfl rfl)
theorem dX2_wires_32 : decode cX2_wires 32 = .ok (.ishr, 1) := dk_122 (dk_at dksX2_wires_1 8 rfl rfl)
theorem dX2_wires_33 : decode cX2_wires 33 = .ok (.iconst 1, 1) := dk_4 (dk_at dksX2_wires_1 9 rfl rfl)
theorem dX2_wires_34 : decode cX2_wires 34 = .ok (.iand, 1) := dk_126 (dk_at dksX2_wires_1 10 rfl rfl)
theorem dX2_wires_35 : decode cX2_wires 35 = .ok (.iconst 1, 1) := dk_4 (dk_at dksX2_wires_1 11 rfl rfl)
theorem dX2_wires_36 : decode cX2_wires 36 = .ok (.if_icmp .ne 9, 3) := dk_160 0 9 (dk_at dksX2_wires_1 12 rfl rfl)
theorem dX2_wires_39 : decode cX2_wires 39 = .ok (.ldc2_w 183, 3) := dk_20 0 183 (dk_at dksX2_wires_1 15 rfl rfl)
theorem dX2_wires_42 : decode cX2_wires 42 = .ok (.goto 4, 3) := dk_167 0 4 (dk_at dksX2_wires_1 18 rfl rfl)
theorem dX2_wires_45 : decode cX2_wires 45 = .ok (.lconst 0, 1) := dk_9 (dk_at dksX2_wires_1 21 rfl rfl)
theorem dX2_wires_46 : decode cX2_wires 46 = .ok (.lastore, 1) := dk_80 (dk_at dksX2_wires_1 22 rfl rfl)
theorem dX2_wires_47 : decode cX2_wires 47 = .ok (.iinc 2 1, 3) := dk_132 2 1 (dk_at dksX2_wires_2 0 rfl rfl)
theorem dX2_wires_50 : decode cX2_wires 50 = .ok (.goto (-48), 3) := dk_167 255 208 (dk_at dksX2_wires_2 3 rfl rfl)
theorem dX2_wires_53 : decode cX2_wires 53 = .ok (.return_, 1) := dk_177 (dk_at dksX2_wires_2 6 rfl rfl)
abbrev cX2_joinsAnds : ByteArray := prog_21_method_18_code
def yX2_joinsAnds : MethodName := ⟨RX2, "joinsAnds", "()V"⟩
def dkwX2_joinsAnds_4 : List UInt8 := [180, 0, 185, 4, 84, 42, 180, 0, 60, 42, 180, 0, 185, 3, 84, 177]
abbrev dktX2_joinsAnds_4 : List UInt8 := dkwX2_joinsAnds_4 ++ []
def dkwX2_joinsAnds_3 : List UInt8 := [104, 27, 96, 47, 32, 127, 167, 0, 4, 32, 80, 132, 1, 1, 167, 255, 172, 42, 180, 0, 57, 42]
abbrev dktX2_joinsAnds_3 : List UInt8 := dkwX2_joinsAnds_3 ++ dktX2_joinsAnds_4
def dkwX2_joinsAnds_2 : List UInt8 := [104, 27, 96, 42, 180, 0, 57, 42, 180, 0, 185, 51, 153, 0, 21, 42, 180, 0, 51, 7, 42, 180, 0, 185]
abbrev dktX2_joinsAnds_2 : List UInt8 := dkwX2_joinsAnds_2 ++ dktX2_joinsAnds_3
def dkwX2_joinsAnds_1 : List UInt8 := [47, 20, 0, 183, 131, 167, 0, 9, 42, 180, 0, 63, 27, 47, 65, 42, 180, 0, 51, 7, 42, 180, 0, 185]
abbrev dktX2_joinsAnds_1 : List UInt8 := dkwX2_joinsAnds_1 ++ dktX2_joinsAnds_2
def dkwX2_joinsAnds_0 : List UInt8 := [3, 60, 27, 7, 162, 0, 85, 42, 180, 0, 60, 42, 180, 0, 185, 51, 153, 0, 16, 42, 180, 0, 63, 27]
abbrev dktX2_joinsAnds_0 : List UInt8 := dkwX2_joinsAnds_0 ++ dktX2_joinsAnds_1
theorem dksX2_joinsAnds_0 : cX2_joinsAnds.data.toList.drop 0 = dktX2_joinsAnds_0 := by decide +kernel
theorem dksX2_joinsAnds_1 : cX2_joinsAnds.data.toList.drop 24 = dktX2_joinsAnds_1 := dk_seg dksX2_joinsAnds_0 24 rfl rfl
theorem dksX2_joinsAnds_2 : cX2_joinsAnds.data.toList.drop 48 = dktX2_joinsAnds_2 := dk_seg dksX2_joinsAnds_1 24 rfl rfl
theorem dksX2_joinsAnds_3 : cX2_joinsAnds.data.toList.drop 72 = dktX2_joinsAnds_3 := dk_seg dksX2_joinsAnds_2 24 rfl rfl
theorem dksX2_joinsAnds_4 : cX2_joinsAnds.data.toList.drop 94 = dktX2_joinsAnds_4 := dk_seg dksX2_joinsAnds_3 22 rfl rfl
theorem dX2_joinsAnds_0 : decode cX2_joinsAnds 0 = .ok (.iconst 0, 1) := dk_3 (dk_at dksX2_joinsAnds_0 0 rfl rfl)
theorem dX2_joinsAnds_1 : decode cX2_joinsAnds 1 = .ok (.istore_n 1, 1) := dk_60 (dk_at dksX2_joinsAnds_0 1 rfl rfl)
theorem dX2_joinsAnds_2 : decode cX2_joinsAnds 2 = .ok (.iload_n 1, 1) := dk_27 (dk_at dksX2_joinsAnds_0 2 rfl rfl)
theorem dX2_joinsAnds_3 : decode cX2_joinsAnds 3 = .ok (.iconst 4, 1) := dk_7 (dk_at dksX2_joinsAnds_0 3 rfl rfl)
theorem dX2_joinsAnds_4 : decode cX2_joinsAnds 4 = .ok (.if_icmp .ge 85, 3) := dk_162 0 85 (dk_at dksX2_joinsAnds_0 4 rfl rfl)
theorem dX2_joinsAnds_7 : decode cX2_joinsAnds 7 = .ok (.aload_n 0, 1) := dk_42 (dk_at dksX2_joinsAnds_0 7 rfl rfl)
theorem dX2_joinsAnds_8 : decode cX2_joinsAnds 8 = .ok (.getfield 60, 3) := dk_180 0 60 (dk_at dksX2_joinsAnds_0 8 rfl rfl)
theorem dX2_joinsAnds_11 : decode cX2_joinsAnds 11 = .ok (.aload_n 0, 1) := dk_42 (dk_at dksX2_joinsAnds_0 11 rfl rfl)
theorem dX2_joinsAnds_12 : decode cX2_joinsAnds 12 = .ok (.getfield 185, 3) := dk_180 0 185 (dk_at dksX2_joinsAnds_0 12 rfl rfl)
theorem dX2_joinsAnds_15 : decode cX2_joinsAnds 15 = .ok (.baload, 1) := dk_51 (dk_at dksX2_joinsAnds_0 15 rfl rfl)
theorem dX2_joinsAnds_16 : decode cX2_joinsAnds 16 = .ok (.ifCond .eq 16, 3) := dk_153 0 16 (dk_at dksX2_joinsAnds_0 16 rfl rfl)
theorem dX2_joinsAnds_19 : decode cX2_joinsAnds 19 = .ok (.aload_n 0, 1) := dk_42 (dk_at dksX2_joinsAnds_0 19 rfl rfl)
theorem dX2_joinsAnds_20 : decode cX2_joinsAnds 20 = .ok (.getfield 63, 3) := dk_180 0 63 (dk_at dksX2_joinsAnds_0 20 rfl rfl)
theorem dX2_joinsAnds_23 : decode cX2_joinsAnds 23 = .ok (.iload_n 1, 1) := dk_27 (dk_at dksX2_joinsAnds_0 23 rfl rfl)
theorem dX2_joinsAnds_24 : decode cX2_joinsAnds 24 = .ok (.laload, 1) := dk_47 (dk_at dksX2_joinsAnds_1 0 rfl rfl)
theorem dX2_joinsAnds_25 : decode cX2_joinsAnds 25 = .ok (.ldc2_w 183, 3) := dk_20 0 183 (dk_at dksX2_joinsAnds_1 1 rfl rfl)
theorem dX2_joinsAnds_28 : decode cX2_joinsAnds 28 = .ok (.lxor, 1) := dk_131 (dk_at dksX2_joinsAnds_1 4 rfl rfl)
theorem dX2_joinsAnds_29 : decode cX2_joinsAnds 29 = .ok (.goto 9, 3) := dk_167 0 9 (dk_at dksX2_joinsAnds_1 5 rfl rfl)
theorem dX2_joinsAnds_32 : decode cX2_joinsAnds 32 = .ok (.aload_n 0, 1) := dk_42 (dk_at dksX2_joinsAnds_1 8 rfl rfl)
theorem dX2_joinsAnds_33 : decode cX2_joinsAnds 33 = .ok (.getfield 63, 3) := dk_180 0 63 (dk_at dksX2_joinsAnds_1 9 rfl rfl)
theorem dX2_joinsAnds_36 : decode cX2_joinsAnds 36 = .ok (.iload_n 1, 1) := dk_27 (dk_at dksX2_joinsAnds_1 12 rfl rfl)
theorem dX2_joinsAnds_37 : decode cX2_joinsAnds 37 = .ok (.laload, 1) := dk_47 (dk_at dksX2_joinsAnds_1 13 rfl rfl)
theorem dX2_joinsAnds_38 : decode cX2_joinsAnds 38 = .ok (.lstore_n 2, 1) := dk_65 (dk_at dksX2_joinsAnds_1 14 rfl rfl)
theorem dX2_joinsAnds_39 : decode cX2_joinsAnds 39 = .ok (.aload_n 0, 1) := dk_42 (dk_at dksX2_joinsAnds_1 15 rfl rfl)
theorem dX2_joinsAnds_40 : decode cX2_joinsAnds 40 = .ok (.getfield 51, 3) := dk_180 0 51 (dk_at dksX2_joinsAnds_1 16 rfl rfl)
theorem dX2_joinsAnds_43 : decode cX2_joinsAnds 43 = .ok (.iconst 4, 1) := dk_7 (dk_at dksX2_joinsAnds_1 19 rfl rfl)
theorem dX2_joinsAnds_44 : decode cX2_joinsAnds 44 = .ok (.aload_n 0, 1) := dk_42 (dk_at dksX2_joinsAnds_1 20 rfl rfl)
theorem dX2_joinsAnds_45 : decode cX2_joinsAnds 45 = .ok (.getfield 185, 3) := dk_180 0 185 (dk_at dksX2_joinsAnds_1 21 rfl rfl)
theorem dX2_joinsAnds_48 : decode cX2_joinsAnds 48 = .ok (.imul, 1) := dk_104 (dk_at dksX2_joinsAnds_2 0 rfl rfl)
theorem dX2_joinsAnds_49 : decode cX2_joinsAnds 49 = .ok (.iload_n 1, 1) := dk_27 (dk_at dksX2_joinsAnds_2 1 rfl rfl)
theorem dX2_joinsAnds_50 : decode cX2_joinsAnds 50 = .ok (.iadd, 1) := dk_96 (dk_at dksX2_joinsAnds_2 2 rfl rfl)
theorem dX2_joinsAnds_51 : decode cX2_joinsAnds 51 = .ok (.aload_n 0, 1) := dk_42 (dk_at dksX2_joinsAnds_2 3 rfl rfl)
theorem dX2_joinsAnds_52 : decode cX2_joinsAnds 52 = .ok (.getfield 57, 3) := dk_180 0 57 (dk_at dksX2_joinsAnds_2 4 rfl rfl)
theorem dX2_joinsAnds_55 : decode cX2_joinsAnds 55 = .ok (.aload_n 0, 1) := dk_42 (dk_at dksX2_joinsAnds_2 7 rfl rfl)
theorem dX2_joinsAnds_56 : decode cX2_joinsAnds 56 = .ok (.getfield 185, 3) := dk_180 0 185 (dk_at dksX2_joinsAnds_2 8 rfl rfl)
theorem dX2_joinsAnds_59 : decode cX2_joinsAnds 59 = .ok (.baload, 1) := dk_51 (dk_at dksX2_joinsAnds_2 11 rfl rfl)
theorem dX2_joinsAnds_60 : decode cX2_joinsAnds 60 = .ok (.ifCond .eq 21, 3) := dk_153 0 21 (dk_at dksX2_joinsAnds_2 12 rfl rfl)
theorem dX2_joinsAnds_63 : decode cX2_joinsAnds 63 = .ok (.aload_n 0, 1) := dk_42 (dk_at dksX2_joinsAnds_2 15 rfl rfl)
theorem dX2_joinsAnds_64 : decode cX2_joinsAnds 64 = .ok (.getfield 51, 3) := dk_180 0 51 (dk_at dksX2_joinsAnds_2 16 rfl rfl)
theorem dX2_joinsAnds_67 : decode cX2_joinsAnds 67 = .ok (.iconst 4, 1) := dk_7 (dk_at dksX2_joinsAnds_2 19 rfl rfl)
theorem dX2_joinsAnds_68 : decode cX2_joinsAnds 68 = .ok (.aload_n 0, 1) := dk_42 (dk_at dksX2_joinsAnds_2 20 rfl rfl)
theorem dX2_joinsAnds_69 : decode cX2_joinsAnds 69 = .ok (.getfield 185, 3) := dk_180 0 185 (dk_at dksX2_joinsAnds_2 21 rfl rfl)
theorem dX2_joinsAnds_72 : decode cX2_joinsAnds 72 = .ok (.imul, 1) := dk_104 (dk_at dksX2_joinsAnds_3 0 rfl rfl)
theorem dX2_joinsAnds_73 : decode cX2_joinsAnds 73 = .ok (.iload_n 1, 1) := dk_27 (dk_at dksX2_joinsAnds_3 1 rfl rfl)
theorem dX2_joinsAnds_74 : decode cX2_joinsAnds 74 = .ok (.iadd, 1) := dk_96 (dk_at dksX2_joinsAnds_3 2 rfl rfl)
theorem dX2_joinsAnds_75 : decode cX2_joinsAnds 75 = .ok (.laload, 1) := dk_47 (dk_at dksX2_joinsAnds_3 3 rfl rfl)
theorem dX2_joinsAnds_76 : decode cX2_joinsAnds 76 = .ok (.lload_n 2, 1) := dk_32 (dk_at dksX2_joinsAnds_3 4 rfl rfl)
theorem dX2_joinsAnds_77 : decode cX2_joinsAnds 77 = .ok (.land, 1) := dk_127 (dk_at dksX2_joinsAnds_3 5 rfl rfl)
theorem dX2_joinsAnds_78 : decode cX2_joinsAnds 78 = .ok (.goto 4, 3) := dk_167 0 4 (dk_at dksX2_joinsAnds_3 6 rfl rfl)
theorem dX2_joinsAnds_81 : decode cX2_joinsAnds 81 = .ok (.lload_n 2, 1) := dk_32 (dk_at dksX2_joinsAnds_3 9 rfl rfl)
theorem dX2_joinsAnds_82 : decode cX2_joinsAnds 82 = .ok (.lastore, 1) := dk_80 (dk_at dksX2_joinsAnds_3 10 rfl rfl)
theorem dX2_joinsAnds_83 : decode cX2_joinsAnds 83 = .ok (.iinc 1 1, 3) := dk_132 1 1 (dk_at dksX2_joinsAnds_3 11 rfl rfl)
theorem dX2_joinsAnds_86 : decode cX2_joinsAnds 86 = .ok (.goto (-84), 3) := dk_167 255 172 (dk_at dksX2_joinsAnds_3 14 rfl rfl)
theorem dX2_joinsAnds_89 : decode cX2_joinsAnds 89 = .ok (.aload_n 0, 1) := dk_42 (dk_at dksX2_joinsAnds_3 17 rfl rfl)
theorem dX2_joinsAnds_90 : decode cX2_joinsAnds 90 = .ok (.getfield 57, 3) := dk_180 0 57 (dk_at dksX2_joinsAnds_3 18 rfl rfl)
theorem dX2_joinsAnds_93 : decode cX2_joinsAnds 93 = .ok (.aload_n 0, 1) := dk_42 (dk_at dksX2_joinsAnds_3 21 rfl rfl)
theorem dX2_joinsAnds_94 : decode cX2_joinsAnds 94 = .ok (.getfield 185, 3) := dk_180 0 185 (dk_at dksX2_joinsAnds_4 0 rfl rfl)
theorem dX2_joinsAnds_97 : decode cX2_joinsAnds 97 = .ok (.iconst 1, 1) := dk_4 (dk_at dksX2_joinsAnds_4 3 rfl rfl)
theorem dX2_joinsAnds_98 : decode cX2_joinsAnds 98 = .ok (.bastore, 1) := dk_84 (dk_at dksX2_joinsAnds_4 4 rfl rfl)
theorem dX2_joinsAnds_99 : decode cX2_joinsAnds 99 = .ok (.aload_n 0, 1) := dk_42 (dk_at dksX2_joinsAnds_4 5 rfl rfl)
theorem dX2_joinsAnds_100 : decode cX2_joinsAnds 100 = .ok (.getfield 60, 3) := dk_180 0 60 (dk_at dksX2_joinsAnds_4 6 rfl rfl)
theorem dX2_joinsAnds_103 : decode cX2_joinsAnds 103 = .ok (.aload_n 0, 1) := dk_42 (dk_at dksX2_joinsAnds_4 9 rfl rfl)
theorem dX2_joinsAnds_104 : decode cX2_joinsAnds 104 = .ok (.getfield 185, 3) := dk_180 0 185 (dk_at dksX2_joinsAnds_4 10 rfl rfl)
theorem dX2_joinsAnds_107 : decode cX2_joinsAnds 107 = .ok (.iconst 0, 1) := dk_3 (dk_at dksX2_joinsAnds_4 13 rfl rfl)
theorem dX2_joinsAnds_108 : decode cX2_joinsAnds 108 = .ok (.bastore, 1) := dk_84 (dk_at dksX2_joinsAnds_4 14 rfl rfl)
theorem dX2_joinsAnds_109 : decode cX2_joinsAnds 109 = .ok (.return_, 1) := dk_177 (dk_at dksX2_joinsAnds_4 15 rfl rfl)
abbrev cX2_joinsOrs : ByteArray := prog_21_method_19_code
def yX2_joinsOrs : MethodName := ⟨RX2, "joinsOrs", "()V"⟩
def dkwX2_joinsOrs_4 : List UInt8 := [180, 0, 185, 3, 84, 177]
abbrev dktX2_joinsOrs_4 : List UInt8 := dkwX2_joinsOrs_4 ++ []
def dkwX2_joinsOrs_3 : List UInt8 := [96, 47, 80, 132, 1, 1, 167, 255, 180, 42, 180, 0, 54, 42, 180, 0, 185, 4, 84, 42, 180, 0, 57, 42]
abbrev dktX2_joinsOrs_3 : List UInt8 := dkwX2_joinsOrs_3 ++ dktX2_joinsOrs_4
def dkwX2_joinsOrs_2 : List UInt8 := [7, 42, 180, 0, 185, 104, 27, 96, 47, 129, 167, 0, 16, 42, 180, 0, 51, 7, 42, 180, 0, 185, 104, 27]
abbrev dktX2_joinsOrs_2 : List UInt8 := dkwX2_joinsOrs_2 ++ dktX2_joinsOrs_3
def dkwX2_joinsOrs_1 : List UInt8 := [180, 0, 185, 51, 153, 0, 33, 42, 180, 0, 48, 7, 42, 180, 0, 185, 104, 27, 96, 47, 42, 180, 0, 51]
abbrev dktX2_joinsOrs_1 : List UInt8 := dkwX2_joinsOrs_1 ++ dktX2_joinsOrs_2
def dkwX2_joinsOrs_0 : List UInt8 := [3, 60, 27, 7, 162, 0, 77, 42, 180, 0, 48, 7, 42, 180, 0, 185, 104, 27, 96, 42, 180, 0, 54, 42]
abbrev dktX2_joinsOrs_0 : List UInt8 := dkwX2_joinsOrs_0 ++ dktX2_joinsOrs_1
theorem dksX2_joinsOrs_0 : cX2_joinsOrs.data.toList.drop 0 = dktX2_joinsOrs_0 := by decide +kernel
theorem dksX2_joinsOrs_1 : cX2_joinsOrs.data.toList.drop 24 = dktX2_joinsOrs_1 := dk_seg dksX2_joinsOrs_0 24 rfl rfl
theorem dksX2_joinsOrs_2 : cX2_joinsOrs.data.toList.drop 48 = dktX2_joinsOrs_2 := dk_seg dksX2_joinsOrs_1 24 rfl rfl
theorem dksX2_joinsOrs_3 : cX2_joinsOrs.data.toList.drop 72 = dktX2_joinsOrs_3 := dk_seg dksX2_joinsOrs_2 24 rfl rfl
theorem dksX2_joinsOrs_4 : cX2_joinsOrs.data.toList.drop 96 = dktX2_joinsOrs_4 := dk_seg dksX2_joinsOrs_3 24 rfl rfl
theorem dX2_joinsOrs_0 : decode cX2_joinsOrs 0 = .ok (.iconst 0, 1) := dk_3 (dk_at dksX2_joinsOrs_0 0 rfl rfl)
theorem dX2_joinsOrs_1 : decode cX2_joinsOrs 1 = .ok (.istore_n 1, 1) := dk_60 (dk_at dksX2_joinsOrs_0 1 rfl rfl)
theorem dX2_joinsOrs_2 : decode cX2_joinsOrs 2 = .ok (.iload_n 1, 1) := dk_27 (dk_at dksX2_joinsOrs_0 2 rfl rfl)
theorem dX2_joinsOrs_3 : decode cX2_joinsOrs 3 = .ok (.iconst 4, 1) := dk_7 (dk_at dksX2_joinsOrs_0 3 rfl rfl)
theorem dX2_joinsOrs_4 : decode cX2_joinsOrs 4 = .ok (.if_icmp .ge 77, 3) := dk_162 0 77 (dk_at dksX2_joinsOrs_0 4 rfl rfl)
theorem dX2_joinsOrs_7 : decode cX2_joinsOrs 7 = .ok (.aload_n 0, 1) := dk_42 (dk_at dksX2_joinsOrs_0 7 rfl rfl)
theorem dX2_joinsOrs_8 : decode cX2_joinsOrs 8 = .ok (.getfield 48, 3) := dk_180 0 48 (dk_at dksX2_joinsOrs_0 8 rfl rfl)
theorem dX2_joinsOrs_11 : decode cX2_joinsOrs 11 = .ok (.iconst 4, 1) := dk_7 (dk_at dksX2_joinsOrs_0 11 rfl rfl)
theorem dX2_joinsOrs_12 : decode cX2_joinsOrs 12 = .ok (.aload_n 0, 1) := dk_42 (dk_at dksX2_joinsOrs_0 12 rfl rfl)
theorem dX2_joinsOrs_13 : decode cX2_joinsOrs 13 = .ok (.getfield 185, 3) := dk_180 0 185 (dk_at dksX2_joinsOrs_0 13 rfl rfl)
theorem dX2_joinsOrs_16 : decode cX2_joinsOrs 16 = .ok (.imul, 1) := dk_104 (dk_at dksX2_joinsOrs_0 16 rfl rfl)
theorem dX2_joinsOrs_17 : decode cX2_joinsOrs 17 = .ok (.iload_n 1, 1) := dk_27 (dk_at dksX2_joinsOrs_0 17 rfl rfl)
theorem dX2_joinsOrs_18 : decode cX2_joinsOrs 18 = .ok (.iadd, 1) := dk_96 (dk_at dksX2_joinsOrs_0 18 rfl rfl)
theorem dX2_joinsOrs_19 : decode cX2_joinsOrs 19 = .ok (.aload_n 0, 1) := dk_42 (dk_at dksX2_joinsOrs_0 19 rfl rfl)
theorem dX2_joinsOrs_20 : decode cX2_joinsOrs 20 = .ok (.getfield 54, 3) := dk_180 0 54 (dk_at dksX2_joinsOrs_0 20 rfl rfl)
theorem dX2_joinsOrs_23 : decode cX2_joinsOrs 23 = .ok (.aload_n 0, 1) := dk_42 (dk_at dksX2_joinsOrs_0 23 rfl rfl)
theorem dX2_joinsOrs_24 : decode cX2_joinsOrs 24 = .ok (.getfield 185, 3) := dk_180 0 185 (dk_at dksX2_joinsOrs_1 0 rfl rfl)
theorem dX2_joinsOrs_27 : decode cX2_joinsOrs 27 = .ok (.baload, 1) := dk_51 (dk_at dksX2_joinsOrs_1 3 rfl rfl)
theorem dX2_joinsOrs_28 : decode cX2_joinsOrs 28 = .ok (.ifCond .eq 33, 3) := dk_153 0 33 (dk_at dksX2_joinsOrs_1 4 rfl rfl)
theorem dX2_joinsOrs_31 : decode cX2_joinsOrs 31 = .ok (.aload_n 0, 1) := dk_42 (dk_at dksX2_joinsOrs_1 7 rfl rfl)
theorem dX2_joinsOrs_32 : decode cX2_joinsOrs 32 = .ok (.getfield 48, 3) := dk_180 0 48 (dk_at dksX2_joinsOrs_1 8 rfl rfl)
theorem dX2_joinsOrs_35 : decode cX2_joinsOrs 35 = .ok (.iconst 4, 1) := dk_7 (dk_at dksX2_joinsOrs_1 11 rfl rfl)
theorem dX2_joinsOrs_36 : decode cX2_joinsOrs 36 = .ok (.aload_n 0, 1) := dk_42 (dk_at dksX2_joinsOrs_1 12 rfl rfl)
theorem dX2_joinsOrs_37 : decode cX2_joinsOrs 37 = .ok (.getfield 185, 3) := dk_180 0 185 (dk_at dksX2_joinsOrs_1 13 rfl rfl)
theorem dX2_joinsOrs_40 : decode cX2_joinsOrs 40 = .ok (.imul, 1) := dk_104 (dk_at dksX2_joinsOrs_1 16 rfl rfl)
theorem dX2_joinsOrs_41 : decode cX2_joinsOrs 41 = .ok (.iload_n 1, 1) := dk_27 (dk_at dksX2_joinsOrs_1 17 rfl rfl)
theorem dX2_joinsOrs_42 : decode cX2_joinsOrs 42 = .ok (.iadd, 1) := dk_96 (dk_at dksX2_joinsOrs_1 18 rfl rfl)
theorem dX2_joinsOrs_43 : decode cX2_joinsOrs 43 = .ok (.laload, 1) := dk_47 (dk_at dksX2_joinsOrs_1 19 rfl rfl)
theorem dX2_joinsOrs_44 : decode cX2_joinsOrs 44 = .ok (.aload_n 0, 1) := dk_42 (dk_at dksX2_joinsOrs_1 20 rfl rfl)
theorem dX2_joinsOrs_45 : decode cX2_joinsOrs 45 = .ok (.getfield 51, 3) := dk_180 0 51 (dk_at dksX2_joinsOrs_1 21 rfl rfl)
theorem dX2_joinsOrs_48 : decode cX2_joinsOrs 48 = .ok (.iconst 4, 1) := dk_7 (dk_at dksX2_joinsOrs_2 0 rfl rfl)
theorem dX2_joinsOrs_49 : decode cX2_joinsOrs 49 = .ok (.aload_n 0, 1) := dk_42 (dk_at dksX2_joinsOrs_2 1 rfl rfl)
theorem dX2_joinsOrs_50 : decode cX2_joinsOrs 50 = .ok (.getfield 185, 3) := dk_180 0 185 (dk_at dksX2_joinsOrs_2 2 rfl rfl)
theorem dX2_joinsOrs_53 : decode cX2_joinsOrs 53 = .ok (.imul, 1) := dk_104 (dk_at dksX2_joinsOrs_2 5 rfl rfl)
theorem dX2_joinsOrs_54 : decode cX2_joinsOrs 54 = .ok (.iload_n 1, 1) := dk_27 (dk_at dksX2_joinsOrs_2 6 rfl rfl)
theorem dX2_joinsOrs_55 : decode cX2_joinsOrs 55 = .ok (.iadd, 1) := dk_96 (dk_at dksX2_joinsOrs_2 7 rfl rfl)
theorem dX2_joinsOrs_56 : decode cX2_joinsOrs 56 = .ok (.laload, 1) := dk_47 (dk_at dksX2_joinsOrs_2 8 rfl rfl)
theorem dX2_joinsOrs_57 : decode cX2_joinsOrs 57 = .ok (.lor, 1) := dk_129 (dk_at dksX2_joinsOrs_2 9 rfl rfl)
theorem dX2_joinsOrs_58 : decode cX2_joinsOrs 58 = .ok (.goto 16, 3) := dk_167 0 16 (dk_at dksX2_joinsOrs_2 10 rfl rfl)
theorem dX2_joinsOrs_61 : decode cX2_joinsOrs 61 = .ok (.aload_n 0, 1) := dk_42 (dk_at dksX2_joinsOrs_2 13 rfl rfl)
theorem dX2_joinsOrs_62 : decode cX2_joinsOrs 62 = .ok (.getfield 51, 3) := dk_180 0 51 (dk_at dksX2_joinsOrs_2 14 rfl rfl)
theorem dX2_joinsOrs_65 : decode cX2_joinsOrs 65 = .ok (.iconst 4, 1) := dk_7 (dk_at dksX2_joinsOrs_2 17 rfl rfl)
theorem dX2_joinsOrs_66 : decode cX2_joinsOrs 66 = .ok (.aload_n 0, 1) := dk_42 (dk_at dksX2_joinsOrs_2 18 rfl rfl)
theorem dX2_joinsOrs_67 : decode cX2_joinsOrs 67 = .ok (.getfield 185, 3) := dk_180 0 185 (dk_at dksX2_joinsOrs_2 19 rfl rfl)
theorem dX2_joinsOrs_70 : decode cX2_joinsOrs 70 = .ok (.imul, 1) := dk_104 (dk_at dksX2_joinsOrs_2 22 rfl rfl)
theorem dX2_joinsOrs_71 : decode cX2_joinsOrs 71 = .ok (.iload_n 1, 1) := dk_27 (dk_at dksX2_joinsOrs_2 23 rfl rfl)
theorem dX2_joinsOrs_72 : decode cX2_joinsOrs 72 = .ok (.iadd, 1) := dk_96 (dk_at dksX2_joinsOrs_3 0 rfl rfl)
theorem dX2_joinsOrs_73 : decode cX2_joinsOrs 73 = .ok (.laload, 1) := dk_47 (dk_at dksX2_joinsOrs_3 1 rfl rfl)
theorem dX2_joinsOrs_74 : decode cX2_joinsOrs 74 = .ok (.lastore, 1) := dk_80 (dk_at dksX2_joinsOrs_3 2 rfl rfl)
theorem dX2_joinsOrs_75 : decode cX2_joinsOrs 75 = .ok (.iinc 1 1, 3) := dk_132 1 1 (dk_at dksX2_joinsOrs_3 3 rfl rfl)
theorem dX2_joinsOrs_78 : decode cX2_joinsOrs 78 = .ok (.goto (-76), 3) := dk_167 255 180 (dk_at dksX2_joinsOrs_3 6 rfl rfl)
theorem dX2_joinsOrs_81 : decode cX2_joinsOrs 81 = .ok (.aload_n 0, 1) := dk_42 (dk_at dksX2_joinsOrs_3 9 rfl rfl)
theorem dX2_joinsOrs_82 : decode cX2_joinsOrs 82 = .ok (.getfield 54, 3) := dk_180 0 54 (dk_at dksX2_joinsOrs_3 10 rfl rfl)
theorem dX2_joinsOrs_85 : decode cX2_joinsOrs 85 = .ok (.aload_n 0, 1) := dk_42 (dk_at dksX2_joinsOrs_3 13 rfl rfl)
theorem dX2_joinsOrs_86 : decode cX2_joinsOrs 86 = .ok (.getfield 185, 3) := dk_180 0 185 (dk_at dksX2_joinsOrs_3 14 rfl rfl)
theorem dX2_joinsOrs_89 : decode cX2_joinsOrs 89 = .ok (.iconst 1, 1) := dk_4 (dk_at dksX2_joinsOrs_3 17 rfl rfl)
theorem dX2_joinsOrs_90 : decode cX2_joinsOrs 90 = .ok (.bastore, 1) := dk_84 (dk_at dksX2_joinsOrs_3 18 rfl rfl)
theorem dX2_joinsOrs_91 : decode cX2_joinsOrs 91 = .ok (.aload_n 0, 1) := dk_42 (dk_at dksX2_joinsOrs_3 19 rfl rfl)
theorem dX2_joinsOrs_92 : decode cX2_joinsOrs 92 = .ok (.getfield 57, 3) := dk_180 0 57 (dk_at dksX2_joinsOrs_3 20 rfl rfl)
theorem dX2_joinsOrs_95 : decode cX2_joinsOrs 95 = .ok (.aload_n 0, 1) := dk_42 (dk_at dksX2_joinsOrs_3 23 rfl rfl)
theorem dX2_joinsOrs_96 : decode cX2_joinsOrs 96 = .ok (.getfield 185, 3) := dk_180 0 185 (dk_at dksX2_joinsOrs_4 0 rfl rfl)
theorem dX2_joinsOrs_99 : decode cX2_joinsOrs 99 = .ok (.iconst 0, 1) := dk_3 (dk_at dksX2_joinsOrs_4 3 rfl rfl)
theorem dX2_joinsOrs_100 : decode cX2_joinsOrs 100 = .ok (.bastore, 1) := dk_84 (dk_at dksX2_joinsOrs_4 4 rfl rfl)
theorem dX2_joinsOrs_101 : decode cX2_joinsOrs 101 = .ok (.return_, 1) := dk_177 (dk_at dksX2_joinsOrs_4 5 rfl rfl)
abbrev cX2_onePlace : ByteArray := prog_21_method_28_code
def yX2_onePlace : MethodName := ⟨RX2, "onePlace", "()V"⟩
def dkwX2_onePlace_9 : List UInt8 := [4, 167, 0, 4, 3, 184, 0, 194, 96, 79, 177]
abbrev dktX2_onePlace_9 : List UInt8 := dkwX2_onePlace_9 ++ []
def dkwX2_onePlace_8 : List UInt8 := [47, 80, 132, 4, 1, 167, 255, 217, 42, 180, 0, 13, 27, 4, 96, 92, 46, 42, 180, 0, 236, 154, 0, 7]
abbrev dktX2_onePlace_8 : List UInt8 := dkwX2_onePlace_8 ++ dktX2_onePlace_9
def dkwX2_onePlace_7 : List UInt8 := [17, 0, 203, 42, 180, 0, 214, 104, 16, 43, 96, 7, 29, 104, 96, 21, 4, 96, 42, 180, 0, 63, 21, 4]
abbrev dktX2_onePlace_7 : List UInt8 := dkwX2_onePlace_7 ++ dktX2_onePlace_8
def dkwX2_onePlace_6 : List UInt8 := [180, 0, 13, 27, 3, 96, 92, 46, 4, 96, 79, 3, 54, 4, 21, 4, 7, 162, 0, 39, 42, 180, 0, 20]
abbrev dktX2_onePlace_6 : List UInt8 := dkwX2_onePlace_6 ++ dktX2_onePlace_7
def dkwX2_onePlace_5 : List UInt8 := [3, 4, 79, 42, 180, 0, 236, 154, 0, 71, 42, 180, 0, 13, 27, 8, 96, 28, 96, 29, 79, 42]
abbrev dktX2_onePlace_5 : List UInt8 := dkwX2_onePlace_5 ++ dktX2_onePlace_6
def dkwX2_onePlace_4 : List UInt8 := [180, 0, 90, 3, 3, 84, 42, 180, 0, 93, 3, 4, 79, 42, 180, 0, 96, 3, 4, 79, 42, 180, 0, 99]
abbrev dktX2_onePlace_4 : List UInt8 := dkwX2_onePlace_4 ++ dktX2_onePlace_5
def dkwX2_onePlace_3 : List UInt8 := [153, 0, 7, 9, 167, 0, 6, 10, 28, 121, 80, 42, 180, 0, 87, 3, 42, 180, 0, 84, 3, 47, 80, 42]
abbrev dktX2_onePlace_3 : List UInt8 := dkwX2_onePlace_3 ++ dktX2_onePlace_4
def dkwX2_onePlace_2 : List UInt8 := [16, 40, 160, 0, 7, 4, 167, 0, 4, 3, 181, 0, 236, 42, 180, 0, 84, 3, 42, 180, 0, 236]
abbrev dktX2_onePlace_2 : List UInt8 := dkwX2_onePlace_2 ++ dktX2_onePlace_3
def dkwX2_onePlace_1 : List UInt8 := [46, 62, 42, 180, 0, 81, 3, 28, 79, 42, 42, 180, 0, 236, 154, 0, 15, 28, 16, 40, 159, 0, 9, 29]
abbrev dktX2_onePlace_1 : List UInt8 := dkwX2_onePlace_1 ++ dktX2_onePlace_2
def dkwX2_onePlace_0 : List UInt8 := [16, 45, 42, 180, 0, 214, 104, 60, 42, 180, 0, 13, 27, 3, 96, 46, 61, 42, 180, 0, 13, 27, 4, 96]
abbrev dktX2_onePlace_0 : List UInt8 := dkwX2_onePlace_0 ++ dktX2_onePlace_1
theorem dksX2_onePlace_0 : cX2_onePlace.data.toList.drop 0 = dktX2_onePlace_0 := by decide +kernel
theorem dksX2_onePlace_1 : cX2_onePlace.data.toList.drop 24 = dktX2_onePlace_1 := dk_seg dksX2_onePlace_0 24 rfl rfl
theorem dksX2_onePlace_2 : cX2_onePlace.data.toList.drop 48 = dktX2_onePlace_2 := dk_seg dksX2_onePlace_1 24 rfl rfl
theorem dksX2_onePlace_3 : cX2_onePlace.data.toList.drop 70 = dktX2_onePlace_3 := dk_seg dksX2_onePlace_2 22 rfl rfl
theorem dksX2_onePlace_4 : cX2_onePlace.data.toList.drop 94 = dktX2_onePlace_4 := dk_seg dksX2_onePlace_3 24 rfl rfl
theorem dksX2_onePlace_5 : cX2_onePlace.data.toList.drop 118 = dktX2_onePlace_5 := dk_seg dksX2_onePlace_4 24 rfl rfl
theorem dksX2_onePlace_6 : cX2_onePlace.data.toList.drop 140 = dktX2_onePlace_6 := dk_seg dksX2_onePlace_5 22 rfl rfl
theorem dksX2_onePlace_7 : cX2_onePlace.data.toList.drop 164 = dktX2_onePlace_7 := dk_seg dksX2_onePlace_6 24 rfl rfl
theorem dksX2_onePlace_8 : cX2_onePlace.data.toList.drop 188 = dktX2_onePlace_8 := dk_seg dksX2_onePlace_7 24 rfl rfl
theorem dksX2_onePlace_9 : cX2_onePlace.data.toList.drop 212 = dktX2_onePlace_9 := dk_seg dksX2_onePlace_8 24 rfl rfl
theorem dX2_onePlace_0 : decode cX2_onePlace 0 = .ok (.bipush 45, 2) := dk_16 45 (dk_at dksX2_onePlace_0 0 rfl rfl)
theorem dX2_onePlace_2 : decode cX2_onePlace 2 = .ok (.aload_n 0, 1) := dk_42 (dk_at dksX2_onePlace_0 2 rfl rfl)
theorem dX2_onePlace_3 : decode cX2_onePlace 3 = .ok (.getfield 214, 3) := dk_180 0 214 (dk_at dksX2_onePlace_0 3 rfl rfl)
theorem dX2_onePlace_6 : decode cX2_onePlace 6 = .ok (.imul, 1) := dk_104 (dk_at dksX2_onePlace_0 6 rfl rfl)
theorem dX2_onePlace_7 : decode cX2_onePlace 7 = .ok (.istore_n 1, 1) := dk_60 (dk_at dksX2_onePlace_0 7 rfl rfl)
theorem dX2_onePlace_8 : decode cX2_onePlace 8 = .ok (.aload_n 0, 1) := dk_42 (dk_at dksX2_onePlace_0 8 rfl rfl)
theorem dX2_onePlace_9 : decode cX2_onePlace 9 = .ok (.getfield 13, 3) := dk_180 0 13 (dk_at dksX2_onePlace_0 9 rfl rfl)
theorem dX2_onePlace_12 : decode cX2_onePlace 12 = .ok (.iload_n 1, 1) := dk_27 (dk_at dksX2_onePlace_0 12 rfl rfl)
theorem dX2_onePlace_13 : decode cX2_onePlace 13 = .ok (.iconst 0, 1) := dk_3 (dk_at dksX2_onePlace_0 13 rfl rfl)
theorem dX2_onePlace_14 : decode cX2_onePlace 14 = .ok (.iadd, 1) := dk_96 (dk_at dksX2_onePlace_0 14 rfl rfl)
theorem dX2_onePlace_15 : decode cX2_onePlace 15 = .ok (.iaload, 1) := dk_46 (dk_at dksX2_onePlace_0 15 rfl rfl)
theorem dX2_onePlace_16 : decode cX2_onePlace 16 = .ok (.istore_n 2, 1) := dk_61 (dk_at dksX2_onePlace_0 16 rfl rfl)
theorem dX2_onePlace_17 : decode cX2_onePlace 17 = .ok (.aload_n 0, 1) := dk_42 (dk_at dksX2_onePlace_0 17 rfl rfl)
theorem dX2_onePlace_18 : decode cX2_onePlace 18 = .ok (.getfield 13, 3) := dk_180 0 13 (dk_at dksX2_onePlace_0 18 rfl rfl)
theorem dX2_onePlace_21 : decode cX2_onePlace 21 = .ok (.iload_n 1, 1) := dk_27 (dk_at dksX2_onePlace_0 21 rfl rfl)
theorem dX2_onePlace_22 : decode cX2_onePlace 22 = .ok (.iconst 1, 1) := dk_4 (dk_at dksX2_onePlace_0 22 rfl rfl)
theorem dX2_onePlace_23 : decode cX2_onePlace 23 = .ok (.iadd, 1) := dk_96 (dk_at dksX2_onePlace_0 23 rfl rfl)
theorem dX2_onePlace_24 : decode cX2_onePlace 24 = .ok (.iaload, 1) := dk_46 (dk_at dksX2_onePlace_1 0 rfl rfl)
theorem dX2_onePlace_25 : decode cX2_onePlace 25 = .ok (.istore_n 3, 1) := dk_62 (dk_at dksX2_onePlace_1 1 rfl rfl)
theorem dX2_onePlace_26 : decode cX2_onePlace 26 = .ok (.aload_n 0, 1) := dk_42 (dk_at dksX2_onePlace_1 2 rfl rfl)
theorem dX2_onePlace_27 : decode cX2_onePlace 27 = .ok (.getfield 81, 3) := dk_180 0 81 (dk_at dksX2_onePlace_1 3 rfl rfl)
theorem dX2_onePlace_30 : decode cX2_onePlace 30 = .ok (.iconst 0, 1) := dk_3 (dk_at dksX2_onePlace_1 6 rfl rfl)
theorem dX2_onePlace_31 : decode cX2_onePlace 31 = .ok (.iload_n 2, 1) := dk_28 (dk_at dksX2_onePlace_1 7 rfl rfl)
theorem dX2_onePlace_32 : decode cX2_onePlace 32 = .ok (.iastore, 1) := dk_79 (dk_at dksX2_onePlace_1 8 rfl rfl)
theorem dX2_onePlace_33 : decode cX2_onePlace 33 = .ok (.aload_n 0, 1) := dk_42 (dk_at dksX2_onePlace_1 9 rfl rfl)
theorem dX2_onePlace_34 : decode cX2_onePlace 34 = .ok (.aload_n 0, 1) := dk_42 (dk_at dksX2_onePlace_1 10 rfl rfl)
theorem dX2_onePlace_35 : decode cX2_onePlace 35 = .ok (.getfield 236, 3) := dk_180 0 236 (dk_at dksX2_onePlace_1 11 rfl rfl)
theorem dX2_onePlace_38 : decode cX2_onePlace 38 = .ok (.ifCond .ne 15, 3) := dk_154 0 15 (dk_at dksX2_onePlace_1 14 rfl rfl)
theorem dX2_onePlace_41 : decode cX2_onePlace 41 = .ok (.iload_n 2, 1) := dk_28 (dk_at dksX2_onePlace_1 17 rfl rfl)
theorem dX2_onePlace_42 : decode cX2_onePlace 42 = .ok (.bipush 40, 2) := dk_16 40 (dk_at dksX2_onePlace_1 18 rfl rfl)
theorem dX2_onePlace_44 : decode cX2_onePlace 44 = .ok (.if_icmp .eq 9, 3) := dk_159 0 9 (dk_at dksX2_onePlace_1 20 rfl rfl)
theorem dX2_onePlace_47 : decode cX2_onePlace 47 = .ok (.iload_n 3, 1) := dk_29 (dk_at dksX2_onePlace_1 23 rfl rfl)
theorem dX2_onePlace_48 : decode cX2_onePlace 48 = .ok (.bipush 40, 2) := dk_16 40 (dk_at dksX2_onePlace_2 0 rfl rfl)
theorem dX2_onePlace_50 : decode cX2_onePlace 50 = .ok (.if_icmp .ne 7, 3) := dk_160 0 7 (dk_at dksX2_onePlace_2 2 rfl rfl)
theorem dX2_onePlace_53 : decode cX2_onePlace 53 = .ok (.iconst 1, 1) := dk_4 (dk_at dksX2_onePlace_2 5 rfl rfl)
theorem dX2_onePlace_54 : decode cX2_onePlace 54 = .ok (.goto 4, 3) := dk_167 0 4 (dk_at dksX2_onePlace_2 6 rfl rfl)
theorem dX2_onePlace_57 : decode cX2_onePlace 57 = .ok (.iconst 0, 1) := dk_3 (dk_at dksX2_onePlace_2 9 rfl rfl)
theorem dX2_onePlace_58 : decode cX2_onePlace 58 = .ok (.putfield 236, 3) := dk_181 0 236 (dk_at dksX2_onePlace_2 10 rfl rfl)
theorem dX2_onePlace_61 : decode cX2_onePlace 61 = .ok (.aload_n 0, 1) := dk_42 (dk_at dksX2_onePlace_2 13 rfl rfl)
theorem dX2_onePlace_62 : decode cX2_onePlace 62 = .ok (.getfield 84, 3) := dk_180 0 84 (dk_at dksX2_onePlace_2 14 rfl rfl)
theorem dX2_onePlace_65 : decode cX2_onePlace 65 = .ok (.iconst 0, 1) := dk_3 (dk_at dksX2_onePlace_2 17 rfl rfl)
theorem dX2_onePlace_66 : decode cX2_onePlace 66 = .ok (.aload_n 0, 1) := dk_42 (dk_at dksX2_onePlace_2 18 rfl rfl)
theorem dX2_onePlace_67 : decode cX2_onePlace 67 = .ok (.getfield 236, 3) := dk_180 0 236 (dk_at dksX2_onePlace_2 19 rfl rfl)
theorem dX2_onePlace_70 : decode cX2_onePlace 70 = .ok (.ifCond .eq 7, 3) := dk_153 0 7 (dk_at dksX2_onePlace_3 0 rfl rfl)
theorem dX2_onePlace_73 : decode cX2_onePlace 73 = .ok (.lconst 0, 1) := dk_9 (dk_at dksX2_onePlace_3 3 rfl rfl)
theorem dX2_onePlace_74 : decode cX2_onePlace 74 = .ok (.goto 6, 3) := dk_167 0 6 (dk_at dksX2_onePlace_3 4 rfl rfl)
theorem dX2_onePlace_77 : decode cX2_onePlace 77 = .ok (.lconst 1, 1) := dk_10 (dk_at dksX2_onePlace_3 7 rfl rfl)
theorem dX2_onePlace_78 : decode cX2_onePlace 78 = .ok (.iload_n 2, 1) := dk_28 (dk_at dksX2_onePlace_3 8 rfl rfl)
theorem dX2_onePlace_79 : decode cX2_onePlace 79 = .ok (.lshl, 1) := dk_121 (dk_at dksX2_onePlace_3 9 rfl rfl)
theorem dX2_onePlace_80 : decode cX2_onePlace 80 = .ok (.lastore, 1) := dk_80 (dk_at dksX2_onePlace_3 10 rfl rfl)
theorem dX2_onePlace_81 : decode cX2_onePlace 81 = .ok (.aload_n 0, 1) := dk_42 (dk_at dksX2_onePlace_3 11 rfl rfl)
theorem dX2_onePlace_82 : decode cX2_onePlace 82 = .ok (.getfield 87, 3) := dk_180 0 87 (dk_at dksX2_onePlace_3 12 rfl rfl)
theorem dX2_onePlace_85 : decode cX2_onePlace 85 = .ok (.iconst 0, 1) := dk_3 (dk_at dksX2_onePlace_3 15 rfl rfl)
theorem dX2_onePlace_86 : decode cX2_onePlace 86 = .ok (.aload_n 0, 1) := dk_42 (dk_at dksX2_onePlace_3 16 rfl rfl)
theorem dX2_onePlace_87 : decode cX2_onePlace 87 = .ok (.getfield 84, 3) := dk_180 0 84 (dk_at dksX2_onePlace_3 17 rfl rfl)
theorem dX2_onePlace_90 : decode cX2_onePlace 90 = .ok (.iconst 0, 1) := dk_3 (dk_at dksX2_onePlace_3 20 rfl rfl)
theorem dX2_onePlace_91 : decode cX2_onePlace 91 = .ok (.laload, 1) := dk_47 (dk_at dksX2_onePlace_3 21 rfl rfl)
theorem dX2_onePlace_92 : decode cX2_onePlace 92 = .ok (.lastore, 1) := dk_80 (dk_at dksX2_onePlace_3 22 rfl rfl)
theorem dX2_onePlace_93 : decode cX2_onePlace 93 = .ok (.aload_n 0, 1) := dk_42 (dk_at dksX2_onePlace_3 23 rfl rfl)
theorem dX2_onePlace_94 : decode cX2_onePlace 94 = .ok (.getfield 90, 3) := dk_180 0 90 (dk_at dksX2_onePlace_4 0 rfl rfl)
theorem dX2_onePlace_97 : decode cX2_onePlace 97 = .ok (.iconst 0, 1) := dk_3 (dk_at dksX2_onePlace_4 3 rfl rfl)
theorem dX2_onePlace_98 : decode cX2_onePlace 98 = .ok (.iconst 0, 1) := dk_3 (dk_at dksX2_onePlace_4 4 rfl rfl)
theorem dX2_onePlace_99 : decode cX2_onePlace 99 = .ok (.bastore, 1) := dk_84 (dk_at dksX2_onePlace_4 5 rfl rfl)
theorem dX2_onePlace_100 : decode cX2_onePlace 100 = .ok (.aload_n 0, 1) := dk_42 (dk_at dksX2_onePlace_4 6 rfl rfl)
theorem dX2_onePlace_101 : decode cX2_onePlace 101 = .ok (.getfield 93, 3) := dk_180 0 93 (dk_at dksX2_onePlace_4 7 rfl rfl)
theorem dX2_onePlace_104 : decode cX2_onePlace 104 = .ok (.iconst 0, 1) := dk_3 (dk_at dksX2_onePlace_4 10 rfl rfl)
theorem dX2_onePlace_105 : decode cX2_onePlace 105 = .ok (.iconst 1, 1) := dk_4 (dk_at dksX2_onePlace_4 11 rfl rfl)
theorem dX2_onePlace_106 : decode cX2_onePlace 106 = .ok (.iastore, 1) := dk_79 (dk_at dksX2_onePlace_4 12 rfl rfl)
theorem dX2_onePlace_107 : decode cX2_onePlace 107 = .ok (.aload_n 0, 1) := dk_42 (dk_at dksX2_onePlace_4 13 rfl rfl)
theorem dX2_onePlace_108 : decode cX2_onePlace 108 = .ok (.getfield 96, 3) := dk_180 0 96 (dk_at dksX2_onePlace_4 14 rfl rfl)
theorem dX2_onePlace_111 : decode cX2_onePlace 111 = .ok (.iconst 0, 1) := dk_3 (dk_at dksX2_onePlace_4 17 rfl rfl)
theorem dX2_onePlace_112 : decode cX2_onePlace 112 = .ok (.iconst 1, 1) := dk_4 (dk_at dksX2_onePlace_4 18 rfl rfl)
theorem dX2_onePlace_113 : decode cX2_onePlace 113 = .ok (.iastore, 1) := dk_79 (dk_at dksX2_onePlace_4 19 rfl rfl)
theorem dX2_onePlace_114 : decode cX2_onePlace 114 = .ok (.aload_n 0, 1) := dk_42 (dk_at dksX2_onePlace_4 20 rfl rfl)
theorem dX2_onePlace_115 : decode cX2_onePlace 115 = .ok (.getfield 99, 3) := dk_180 0 99 (dk_at dksX2_onePlace_4 21 rfl rfl)
theorem dX2_onePlace_118 : decode cX2_onePlace 118 = .ok (.iconst 0, 1) := dk_3 (dk_at dksX2_onePlace_5 0 rfl rfl)
theorem dX2_onePlace_119 : decode cX2_onePlace 119 = .ok (.iconst 1, 1) := dk_4 (dk_at dksX2_onePlace_5 1 rfl rfl)
theorem dX2_onePlace_120 : decode cX2_onePlace 120 = .ok (.iastore, 1) := dk_79 (dk_at dksX2_onePlace_5 2 rfl rfl)
theorem dX2_onePlace_121 : decode cX2_onePlace 121 = .ok (.aload_n 0, 1) := dk_42 (dk_at dksX2_onePlace_5 3 rfl rfl)
theorem dX2_onePlace_122 : decode cX2_onePlace 122 = .ok (.getfield 236, 3) := dk_180 0 236 (dk_at dksX2_onePlace_5 4 rfl rfl)
theorem dX2_onePlace_125 : decode cX2_onePlace 125 = .ok (.ifCond .ne 71, 3) := dk_154 0 71 (dk_at dksX2_onePlace_5 7 rfl rfl)
theorem dX2_onePlace_128 : decode cX2_onePlace 128 = .ok (.aload_n 0, 1) := dk_42 (dk_at dksX2_onePlace_5 10 rfl rfl)
theorem dX2_onePlace_129 : decode cX2_onePlace 129 = .ok (.getfield 13, 3) := dk_180 0 13 (dk_at dksX2_onePlace_5 11 rfl rfl)
theorem dX2_onePlace_132 : decode cX2_onePlace 132 = .ok (.iload_n 1, 1) := dk_27 (dk_at dksX2_onePlace_5 14 rfl rfl)
theorem dX2_onePlace_133 : decode cX2_onePlace 133 = .ok (.iconst 5, 1) := dk_8 (dk_at dksX2_onePlace_5 15 rfl rfl)
theorem dX2_onePlace_134 : decode cX2_onePlace 134 = .ok (.iadd, 1) := dk_96 (dk_at dksX2_onePlace_5 16 rfl rfl)
theorem dX2_onePlace_135 : decode cX2_onePlace 135 = .ok (.iload_n 2, 1) := dk_28 (dk_at dksX2_onePlace_5 17 rfl rfl)
theorem dX2_onePlace_136 : decode cX2_onePlace 136 = .ok (.iadd, 1) := dk_96 (dk_at dksX2_onePlace_5 18 rfl rfl)
theorem dX2_onePlace_137 : decode cX2_onePlace 137 = .ok (.iload_n 3, 1) := dk_29 (dk_at dksX2_onePlace_5 19 rfl rfl)
theorem dX2_onePlace_138 : decode cX2_onePlace 138 = .ok (.iastore, 1) := dk_79 (dk_at dksX2_onePlace_5 20 rfl rfl)
theorem dX2_onePlace_139 : decode cX2_onePlace 139 = .ok (.aload_n 0, 1) := dk_42 (dk_at dksX2_onePlace_5 21 rfl rfl)
theorem dX2_onePlace_140 : decode cX2_onePlace 140 = .ok (.getfield 13, 3) := dk_180 0 13 (dk_at dksX2_onePlace_6 0 rfl rfl)
theorem dX2_onePlace_143 : decode cX2_onePlace 143 = .ok (.iload_n 1, 1) := dk_27 (dk_at dksX2_onePlace_6 3 rfl rfl)
theorem dX2_onePlace_144 : decode cX2_onePlace 144 = .ok (.iconst 0, 1) := dk_3 (dk_at dksX2_onePlace_6 4 rfl rfl)
theorem dX2_onePlace_145 : decode cX2_onePlace 145 = .ok (.iadd, 1) := dk_96 (dk_at dksX2_onePlace_6 5 rfl rfl)
theorem dX2_onePlace_146 : decode cX2_onePlace 146 = .ok (.dup2, 1) := dk_92 (dk_at dksX2_onePlace_6 6 rfl rfl)
theorem dX2_onePlace_147 : decode cX2_onePlace 147 = .ok (.iaload, 1) := dk_46 (dk_at dksX2_onePlace_6 7 rfl rfl)
theorem dX2_onePlace_148 : decode cX2_onePlace 148 = .ok (.iconst 1, 1) := dk_4 (dk_at dksX2_onePlace_6 8 rfl rfl)
theorem dX2_onePlace_149 : decode cX2_onePlace 149 = .ok (.iadd, 1) := dk_96 (dk_at dksX2_onePlace_6 9 rfl rfl)
theorem dX2_onePlace_150 : decode cX2_onePlace 150 = .ok (.iastore, 1) := dk_79 (dk_at dksX2_onePlace_6 10 rfl rfl)
theorem dX2_onePlace_151 : decode cX2_onePlace 151 = .ok (.iconst 0, 1) := dk_3 (dk_at dksX2_onePlace_6 11 rfl rfl)
theorem dX2_onePlace_152 : decode cX2_onePlace 152 = .ok (.istore 4, 2) := dk_54 4 (dk_at dksX2_onePlace_6 12 rfl rfl)
theorem dX2_onePlace_154 : decode cX2_onePlace 154 = .ok (.iload 4, 2) := dk_21 4 (dk_at dksX2_onePlace_6 14 rfl rfl)
theorem dX2_onePlace_156 : decode cX2_onePlace 156 = .ok (.iconst 4, 1) := dk_7 (dk_at dksX2_onePlace_6 16 rfl rfl)
theorem dX2_onePlace_157 : decode cX2_onePlace 157 = .ok (.if_icmp .ge 39, 3) := dk_162 0 39 (dk_at dksX2_onePlace_6 17 rfl rfl)
theorem dX2_onePlace_160 : decode cX2_onePlace 160 = .ok (.aload_n 0, 1) := dk_42 (dk_at dksX2_onePlace_6 20 rfl rfl)
theorem dX2_onePlace_161 : decode cX2_onePlace 161 = .ok (.getfield 20, 3) := dk_180 0 20 (dk_at dksX2_onePlace_6 21 rfl rfl)
theorem dX2_onePlace_164 : decode cX2_onePlace 164 = .ok (.sipush 203, 3) := dk_17 0 203 (dk_at dksX2_onePlace_7 0 rfl rfl)
theorem dX2_onePlace_167 : decode cX2_onePlace 167 = .ok (.aload_n 0, 1) := dk_42 (dk_at dksX2_onePlace_7 3 rfl rfl)
theorem dX2_onePlace_168 : decode cX2_onePlace 168 = .ok (.getfield 214, 3) := dk_180 0 214 (dk_at dksX2_onePlace_7 4 rfl rfl)
theorem dX2_onePlace_171 : decode cX2_onePlace 171 = .ok (.imul, 1) := dk_104 (dk_at dksX2_onePlace_7 7 rfl rfl)
theorem dX2_onePlace_172 : decode cX2_onePlace 172 = .ok (.bipush 43, 2) := dk_16 43 (dk_at dksX2_onePlace_7 8 rfl rfl)
theorem dX2_onePlace_174 : decode cX2_onePlace 174 = .ok (.iadd, 1) := dk_96 (dk_at dksX2_onePlace_7 10 rfl rfl)
theorem dX2_onePlace_175 : decode cX2_onePlace 175 = .ok (.iconst 4, 1) := dk_7 (dk_at dksX2_onePlace_7 11 rfl rfl)
theorem dX2_onePlace_176 : decode cX2_onePlace 176 = .ok (.iload_n 3, 1) := dk_29 (dk_at dksX2_onePlace_7 12 rfl rfl)
theorem dX2_onePlace_177 : decode cX2_onePlace 177 = .ok (.imul, 1) := dk_104 (dk_at dksX2_onePlace_7 13 rfl rfl)
theorem dX2_onePlace_178 : decode cX2_onePlace 178 = .ok (.iadd, 1) := dk_96 (dk_at dksX2_onePlace_7 14 rfl rfl)
theorem dX2_onePlace_179 : decode cX2_onePlace 179 = .ok (.iload 4, 2) := dk_21 4 (dk_at dksX2_onePlace_7 15 rfl rfl)
theorem dX2_onePlace_181 : decode cX2_onePlace 181 = .ok (.iadd, 1) := dk_96 (dk_at dksX2_onePlace_7 17 rfl rfl)
theorem dX2_onePlace_182 : decode cX2_onePlace 182 = .ok (.aload_n 0, 1) := dk_42 (dk_at dksX2_onePlace_7 18 rfl rfl)
theorem dX2_onePlace_183 : decode cX2_onePlace 183 = .ok (.getfield 63, 3) := dk_180 0 63 (dk_at dksX2_onePlace_7 19 rfl rfl)
theorem dX2_onePlace_186 : decode cX2_onePlace 186 = .ok (.iload 4, 2) := dk_21 4 (dk_at dksX2_onePlace_7 22 rfl rfl)
theorem dX2_onePlace_188 : decode cX2_onePlace 188 = .ok (.laload, 1) := dk_47 (dk_at dksX2_onePlace_8 0 rfl rfl)
theorem dX2_onePlace_189 : decode cX2_onePlace 189 = .ok (.lastore, 1) := dk_80 (dk_at dksX2_onePlace_8 1 rfl rfl)
theorem dX2_onePlace_190 : decode cX2_onePlace 190 = .ok (.iinc 4 1, 3) := dk_132 4 1 (dk_at dksX2_onePlace_8 2 rfl rfl)
theorem dX2_onePlace_193 : decode cX2_onePlace 193 = .ok (.goto (-39), 3) := dk_167 255 217 (dk_at dksX2_onePlace_8 5 rfl rfl)
theorem dX2_onePlace_196 : decode cX2_onePlace 196 = .ok (.aload_n 0, 1) := dk_42 (dk_at dksX2_onePlace_8 8 rfl rfl)
theorem dX2_onePlace_197 : decode cX2_onePlace 197 = .ok (.getfield 13, 3) := dk_180 0 13 (dk_at dksX2_onePlace_8 9 rfl rfl)
theorem dX2_onePlace_200 : decode cX2_onePlace 200 = .ok (.iload_n 1, 1) := dk_27 (dk_at dksX2_onePlace_8 12 rfl rfl)
theorem dX2_onePlace_201 : decode cX2_onePlace 201 = .ok (.iconst 1, 1) := dk_4 (dk_at dksX2_onePlace_8 13 rfl rfl)
theorem dX2_onePlace_202 : decode cX2_onePlace 202 = .ok (.iadd, 1) := dk_96 (dk_at dksX2_onePlace_8 14 rfl rfl)
theorem dX2_onePlace_203 : decode cX2_onePlace 203 = .ok (.dup2, 1) := dk_92 (dk_at dksX2_onePlace_8 15 rfl rfl)
theorem dX2_onePlace_204 : decode cX2_onePlace 204 = .ok (.iaload, 1) := dk_46 (dk_at dksX2_onePlace_8 16 rfl rfl)
theorem dX2_onePlace_205 : decode cX2_onePlace 205 = .ok (.aload_n 0, 1) := dk_42 (dk_at dksX2_onePlace_8 17 rfl rfl)
theorem dX2_onePlace_206 : decode cX2_onePlace 206 = .ok (.getfield 236, 3) := dk_180 0 236 (dk_at dksX2_onePlace_8 18 rfl rfl)
theorem dX2_onePlace_209 : decode cX2_onePlace 209 = .ok (.ifCond .ne 7, 3) := dk_154 0 7 (dk_at dksX2_onePlace_8 21 rfl rfl)
theorem dX2_onePlace_212 : decode cX2_onePlace 212 = .ok (.iconst 1, 1) := dk_4 (dk_at dksX2_onePlace_9 0 rfl rfl)
theorem dX2_onePlace_213 : decode cX2_onePlace 213 = .ok (.goto 4, 3) := dk_167 0 4 (dk_at dksX2_onePlace_9 1 rfl rfl)
theorem dX2_onePlace_216 : decode cX2_onePlace 216 = .ok (.iconst 0, 1) := dk_3 (dk_at dksX2_onePlace_9 4 rfl rfl)
theorem dX2_onePlace_217 : decode cX2_onePlace 217 = .ok (.invokestatic 194, 3) := dk_184 0 194 (dk_at dksX2_onePlace_9 5 rfl rfl)
theorem dX2_onePlace_220 : decode cX2_onePlace 220 = .ok (.iadd, 1) := dk_96 (dk_at dksX2_onePlace_9 8 rfl rfl)
theorem dX2_onePlace_221 : decode cX2_onePlace 221 = .ok (.iastore, 1) := dk_79 (dk_at dksX2_onePlace_9 9 rfl rfl)
theorem dX2_onePlace_222 : decode cX2_onePlace 222 = .ok (.return_, 1) := dk_177 (dk_at dksX2_onePlace_9 10 rfl rfl)
abbrev cX2_readEnds : ByteArray := prog_21_method_33_code
def yX2_readEnds : MethodName := ⟨RX2, "readEnds", "()V"⟩
def dkwX2_readEnds_6 : List UInt8 := [60, 167, 255, 128, 177]
abbrev dktX2_readEnds_6 : List UInt8 := dkwX2_readEnds_6 ++ []
def dkwX2_readEnds_5 : List UInt8 := [180, 0, 180, 4, 100, 181, 0, 180, 42, 182, 0, 177, 42, 180, 0, 139, 154, 0, 7, 4, 167, 0, 4, 3]
abbrev dktX2_readEnds_5 : List UInt8 := dkwX2_readEnds_5 ++ dktX2_readEnds_6
def dkwX2_readEnds_4 : List UInt8 := [4, 42, 180, 0, 244, 96, 3, 182, 0, 222, 42, 89, 180, 0, 244, 4, 100, 181, 0, 244, 42, 89]
abbrev dktX2_readEnds_4 : List UInt8 := dkwX2_readEnds_4 ++ dktX2_readEnds_5
def dkwX2_readEnds_3 : List UInt8 := [3, 60, 27, 153, 255, 196, 42, 4, 42, 180, 0, 244, 96, 16, 11, 42, 180, 0, 244, 96, 182, 1, 13, 42]
abbrev dktX2_readEnds_3 : List UInt8 := dkwX2_readEnds_3 ++ dktX2_readEnds_4
def dkwX2_readEnds_2 : List UInt8 := [3, 182, 1, 10, 42, 180, 0, 244, 158, 0, 16, 42, 16, 125, 182, 0, 188, 153, 0, 7, 4, 167, 0, 4]
abbrev dktX2_readEnds_2 : List UInt8 := dkwX2_readEnds_2 ++ dktX2_readEnds_3
def dkwX2_readEnds_1 : List UInt8 := [180, 0, 139, 154, 0, 7, 4, 167, 0, 4, 3, 60, 27, 153, 255, 234, 42, 16, 11, 42, 180, 0, 244, 96]
abbrev dktX2_readEnds_1 : List UInt8 := dkwX2_readEnds_1 ++ dktX2_readEnds_2
def dkwX2_readEnds_0 : List UInt8 := [42, 180, 0, 139, 154, 0, 7, 4, 167, 0, 4, 3, 60, 27, 153, 0, 130, 42, 182, 1, 7, 42]
abbrev dktX2_readEnds_0 : List UInt8 := dkwX2_readEnds_0 ++ dktX2_readEnds_1
theorem dksX2_readEnds_0 : cX2_readEnds.data.toList.drop 0 = dktX2_readEnds_0 := by decide +kernel
theorem dksX2_readEnds_1 : cX2_readEnds.data.toList.drop 22 = dktX2_readEnds_1 := dk_seg dksX2_readEnds_0 22 rfl rfl
theorem dksX2_readEnds_2 : cX2_readEnds.data.toList.drop 46 = dktX2_readEnds_2 := dk_seg dksX2_readEnds_1 24 rfl rfl
theorem dksX2_readEnds_3 : cX2_readEnds.data.toList.drop 70 = dktX2_readEnds_3 := dk_seg dksX2_readEnds_2 24 rfl rfl
theorem dksX2_readEnds_4 : cX2_readEnds.data.toList.drop 94 = dktX2_readEnds_4 := dk_seg dksX2_readEnds_3 24 rfl rfl
theorem dksX2_readEnds_5 : cX2_readEnds.data.toList.drop 116 = dktX2_readEnds_5 := dk_seg dksX2_readEnds_4 22 rfl rfl
theorem dksX2_readEnds_6 : cX2_readEnds.data.toList.drop 140 = dktX2_readEnds_6 := dk_seg dksX2_readEnds_5 24 rfl rfl
theorem dX2_readEnds_0 : decode cX2_readEnds 0 = .ok (.aload_n 0, 1) := dk_42 (dk_at dksX2_readEnds_0 0 rfl rfl)
theorem dX2_readEnds_1 : decode cX2_readEnds 1 = .ok (.getfield 139, 3) := dk_180 0 139 (dk_at dksX2_readEnds_0 1 rfl rfl)
theorem dX2_readEnds_4 : decode cX2_readEnds 4 = .ok (.ifCond .ne 7, 3) := dk_154 0 7 (dk_at dksX2_readEnds_0 4 rfl rfl)
theorem dX2_readEnds_7 : decode cX2_readEnds 7 = .ok (.iconst 1, 1) := dk_4 (dk_at dksX2_readEnds_0 7 rfl rfl)
theorem dX2_readEnds_8 : decode cX2_readEnds 8 = .ok (.goto 4, 3) := dk_167 0 4 (dk_at dksX2_readEnds_0 8 rfl rfl)
theorem dX2_readEnds_11 : decode cX2_readEnds 11 = .ok (.iconst 0, 1) := dk_3 (dk_at dksX2_readEnds_0 11 rfl rfl)
theorem dX2_readEnds_12 : decode cX2_readEnds 12 = .ok (.istore_n 1, 1) := dk_60 (dk_at dksX2_readEnds_0 12 rfl rfl)
theorem dX2_readEnds_13 : decode cX2_readEnds 13 = .ok (.iload_n 1, 1) := dk_27 (dk_at dksX2_readEnds_0 13 rfl rfl)
theorem dX2_readEnds_14 : decode cX2_readEnds 14 = .ok (.ifCond .eq 130, 3) := dk_153 0 130 (dk_at dksX2_readEnds_0 14 rfl rfl)
theorem dX2_readEnds_17 : decode cX2_readEnds 17 = .ok (.aload_n 0, 1) := dk_42 (dk_at dksX2_readEnds_0 17 rfl rfl)
theorem dX2_readEnds_18 : decode cX2_readEnds 18 = .ok (.invokevirtual 263, 3) := dk_182 1 7 (dk_at dksX2_readEnds_0 18 rfl rfl)
theorem dX2_readEnds_21 : decode cX2_readEnds 21 = .ok (.aload_n 0, 1) := dk_42 (dk_at dksX2_readEnds_0 21 rfl rfl)
theorem dX2_readEnds_22 : decode cX2_readEnds 22 = .ok (.getfield 139, 3) := dk_180 0 139 (dk_at dksX2_readEnds_1 0 rfl rfl)
theorem dX2_readEnds_25 : decode cX2_readEnds 25 = .ok (.ifCond .ne 7, 3) := dk_154 0 7 (dk_at dksX2_readEnds_1 3 rfl rfl)
theorem dX2_readEnds_28 : decode cX2_readEnds 28 = .ok (.iconst 1, 1) := dk_4 (dk_at dksX2_readEnds_1 6 rfl rfl)
theorem dX2_readEnds_29 : decode cX2_readEnds 29 = .ok (.goto 4, 3) := dk_167 0 4 (dk_at dksX2_readEnds_1 7 rfl rfl)
theorem dX2_readEnds_32 : decode cX2_readEnds 32 = .ok (.iconst 0, 1) := dk_3 (dk_at dksX2_readEnds_1 10 rfl rfl)
theorem dX2_readEnds_33 : decode cX2_readEnds 33 = .ok (.istore_n 1, 1) := dk_60 (dk_at dksX2_readEnds_1 11 rfl rfl)
theorem dX2_readEnds_34 : decode cX2_readEnds 34 = .ok (.iload_n 1, 1) := dk_27 (dk_at dksX2_readEnds_1 12 rfl rfl)
theorem dX2_readEnds_35 : decode cX2_readEnds 35 = .ok (.ifCond .eq (-22), 3) := dk_153 255 234 (dk_at dksX2_readEnds_1 13 rfl rfl)
theorem dX2_readEnds_38 : decode cX2_readEnds 38 = .ok (.aload_n 0, 1) := dk_42 (dk_at dksX2_readEnds_1 16 rfl rfl)
theorem dX2_readEnds_39 : decode cX2_readEnds 39 = .ok (.bipush 11, 2) := dk_16 11 (dk_at dksX2_readEnds_1 17 rfl rfl)
theorem dX2_readEnds_41 : decode cX2_readEnds 41 = .ok (.aload_n 0, 1) := dk_42 (dk_at dksX2_readEnds_1 19 rfl rfl)
theorem dX2_readEnds_42 : decode cX2_readEnds 42 = .ok (.getfield 244, 3) := dk_180 0 244 (dk_at dksX2_readEnds_1 20 rfl rfl)
theorem dX2_readEnds_45 : decode cX2_readEnds 45 = .ok (.iadd, 1) := dk_96 (dk_at dksX2_readEnds_1 23 rfl rfl)
theorem dX2_readEnds_46 : decode cX2_readEnds 46 = .ok (.iconst 0, 1) := dk_3 (dk_at dksX2_readEnds_2 0 rfl rfl)
theorem dX2_readEnds_47 : decode cX2_readEnds 47 = .ok (.invokevirtual 266, 3) := dk_182 1 10 (dk_at dksX2_readEnds_2 1 rfl rfl)
theorem dX2_readEnds_50 : decode cX2_readEnds 50 = .ok (.aload_n 0, 1) := dk_42 (dk_at dksX2_readEnds_2 4 rfl rfl)
theorem dX2_readEnds_51 : decode cX2_readEnds 51 = .ok (.getfield 244, 3) := dk_180 0 244 (dk_at dksX2_readEnds_2 5 rfl rfl)
theorem dX2_readEnds_54 : decode cX2_readEnds 54 = .ok (.ifCond .le 16, 3) := dk_158 0 16 (dk_at dksX2_readEnds_2 8 rfl rfl)
theorem dX2_readEnds_57 : decode cX2_readEnds 57 = .ok (.aload_n 0, 1) := dk_42 (dk_at dksX2_readEnds_2 11 rfl rfl)
theorem dX2_readEnds_58 : decode cX2_readEnds 58 = .ok (.bipush 125, 2) := dk_16 125 (dk_at dksX2_readEnds_2 12 rfl rfl)
theorem dX2_readEnds_60 : decode cX2_readEnds 60 = .ok (.invokevirtual 188, 3) := dk_182 0 188 (dk_at dksX2_readEnds_2 14 rfl rfl)
theorem dX2_readEnds_63 : decode cX2_readEnds 63 = .ok (.ifCond .eq 7, 3) := dk_153 0 7 (dk_at dksX2_readEnds_2 17 rfl rfl)
theorem dX2_readEnds_66 : decode cX2_readEnds 66 = .ok (.iconst 1, 1) := dk_4 (dk_at dksX2_readEnds_2 20 rfl rfl)
theorem dX2_readEnds_67 : decode cX2_readEnds 67 = .ok (.goto 4, 3) := dk_167 0 4 (dk_at dksX2_readEnds_2 21 rfl rfl)
theorem dX2_readEnds_70 : decode cX2_readEnds 70 = .ok (.iconst 0, 1) := dk_3 (dk_at dksX2_readEnds_3 0 rfl rfl)
theorem dX2_readEnds_71 : decode cX2_readEnds 71 = .ok (.istore_n 1, 1) := dk_60 (dk_at dksX2_readEnds_3 1 rfl rfl)
theorem dX2_readEnds_72 : decode cX2_readEnds 72 = .ok (.iload_n 1, 1) := dk_27 (dk_at dksX2_readEnds_3 2 rfl rfl)
theorem dX2_readEnds_73 : decode cX2_readEnds 73 = .ok (.ifCond .eq (-60), 3) := dk_153 255 196 (dk_at dksX2_readEnds_3 3 rfl rfl)
theorem dX2_readEnds_76 : decode cX2_readEnds 76 = .ok (.aload_n 0, 1) := dk_42 (dk_at dksX2_readEnds_3 6 rfl rfl)
theorem dX2_readEnds_77 : decode cX2_readEnds 77 = .ok (.iconst 1, 1) := dk_4 (dk_at dksX2_readEnds_3 7 rfl rfl)
theorem dX2_readEnds_78 : decode cX2_readEnds 78 = .ok (.aload_n 0, 1) := dk_42 (dk_at dksX2_readEnds_3 8 rfl rfl)
theorem dX2_readEnds_79 : decode cX2_readEnds 79 = .ok (.getfield 244, 3) := dk_180 0 244 (dk_at dksX2_readEnds_3 9 rfl rfl)
theorem dX2_readEnds_82 : decode cX2_readEnds 82 = .ok (.iadd, 1) := dk_96 (dk_at dksX2_readEnds_3 12 rfl rfl)
theorem dX2_readEnds_83 : decode cX2_readEnds 83 = .ok (.bipush 11, 2) := dk_16 11 (dk_at dksX2_readEnds_3 13 rfl rfl)
theorem dX2_readEnds_85 : decode cX2_readEnds 85 = .ok (.aload_n 0, 1) := dk_42 (dk_at dksX2_readEnds_3 15 rfl rfl)
theorem dX2_readEnds_86 : decode cX2_readEnds 86 = .ok (.getfield 244, 3) := dk_180 0 244 (dk_at dksX2_readEnds_3 16 rfl rfl)
theorem dX2_readEnds_89 : decode cX2_readEnds 89 = .ok (.iadd, 1) := dk_96 (dk_at dksX2_readEnds_3 19 rfl rfl)
theorem dX2_readEnds_90 : decode cX2_readEnds 90 = .ok (.invokevirtual 269, 3) := dk_182 1 13 (dk_at dksX2_readEnds_3 20 rfl rfl)
theorem dX2_readEnds_93 : decode cX2_readEnds 93 = .ok (.aload_n 0, 1) := dk_42 (dk_at dksX2_readEnds_3 23 rfl rfl)
theorem dX2_readEnds_94 : decode cX2_readEnds 94 = .ok (.iconst 1, 1) := dk_4 (dk_at dksX2_readEnds_4 0 rfl rfl)
theorem dX2_readEnds_95 : decode cX2_readEnds 95 = .ok (.aload_n 0, 1) := dk_42 (dk_at dksX2_readEnds_4 1 rfl rfl)
theorem dX2_readEnds_96 : decode cX2_readEnds 96 = .ok (.getfield 244, 3) := dk_180 0 244 (dk_at dksX2_readEnds_4 2 rfl rfl)
theorem dX2_readEnds_99 : decode cX2_readEnds 99 = .ok (.iadd, 1) := dk_96 (dk_at dksX2_readEnds_4 5 rfl rfl)
theorem dX2_readEnds_100 : decode cX2_readEnds 100 = .ok (.iconst 0, 1) := dk_3 (dk_at dksX2_readEnds_4 6 rfl rfl)
theorem dX2_readEnds_101 : decode cX2_readEnds 101 = .ok (.invokevirtual 222, 3) := dk_182 0 222 (dk_at dksX2_readEnds_4 7 rfl rfl)
theorem dX2_readEnds_104 : decode cX2_readEnds 104 = .ok (.aload_n 0, 1) := dk_42 (dk_at dksX2_readEnds_4 10 rfl rfl)
theorem dX2_readEnds_105 : decode cX2_readEnds 105 = .ok (.dup, 1) := dk_89 (dk_at dksX2_readEnds_4 11 rfl rfl)
theorem dX2_readEnds_106 : decode cX2_readEnds 106 = .ok (.getfield 244, 3) := dk_180 0 244 (dk_at dksX2_readEnds_4 12 rfl rfl)
theorem dX2_readEnds_109 : decode cX2_readEnds 109 = .ok (.iconst 1, 1) := dk_4 (dk_at dksX2_readEnds_4 15 rfl rfl)
theorem dX2_readEnds_110 : decode cX2_readEnds 110 = .ok (.isub, 1) := dk_100 (dk_at dksX2_readEnds_4 16 rfl rfl)
theorem dX2_readEnds_111 : decode cX2_readEnds 111 = .ok (.putfield 244, 3) := dk_181 0 244 (dk_at dksX2_readEnds_4 17 rfl rfl)
theorem dX2_readEnds_114 : decode cX2_readEnds 114 = .ok (.aload_n 0, 1) := dk_42 (dk_at dksX2_readEnds_4 20 rfl rfl)
theorem dX2_readEnds_115 : decode cX2_readEnds 115 = .ok (.dup, 1) := dk_89 (dk_at dksX2_readEnds_4 21 rfl rfl)
theorem dX2_readEnds_116 : decode cX2_readEnds 116 = .ok (.getfield 180, 3) := dk_180 0 180 (dk_at dksX2_readEnds_5 0 rfl rfl)
theorem dX2_readEnds_119 : decode cX2_readEnds 119 = .ok (.iconst 1, 1) := dk_4 (dk_at dksX2_readEnds_5 3 rfl rfl)
theorem dX2_readEnds_120 : decode cX2_readEnds 120 = .ok (.isub, 1) := dk_100 (dk_at dksX2_readEnds_5 4 rfl rfl)
theorem dX2_readEnds_121 : decode cX2_readEnds 121 = .ok (.putfield 180, 3) := dk_181 0 180 (dk_at dksX2_readEnds_5 5 rfl rfl)
theorem dX2_readEnds_124 : decode cX2_readEnds 124 = .ok (.aload_n 0, 1) := dk_42 (dk_at dksX2_readEnds_5 8 rfl rfl)
theorem dX2_readEnds_125 : decode cX2_readEnds 125 = .ok (.invokevirtual 177, 3) := dk_182 0 177 (dk_at dksX2_readEnds_5 9 rfl rfl)
theorem dX2_readEnds_128 : decode cX2_readEnds 128 = .ok (.aload_n 0, 1) := dk_42 (dk_at dksX2_readEnds_5 12 rfl rfl)
theorem dX2_readEnds_129 : decode cX2_readEnds 129 = .ok (.getfield 139, 3) := dk_180 0 139 (dk_at dksX2_readEnds_5 13 rfl rfl)
theorem dX2_readEnds_132 : decode cX2_readEnds 132 = .ok (.ifCond .ne 7, 3) := dk_154 0 7 (dk_at dksX2_readEnds_5 16 rfl rfl)
theorem dX2_readEnds_135 : decode cX2_readEnds 135 = .ok (.iconst 1, 1) := dk_4 (dk_at dksX2_readEnds_5 19 rfl rfl)
theorem dX2_readEnds_136 : decode cX2_readEnds 136 = .ok (.goto 4, 3) := dk_167 0 4 (dk_at dksX2_readEnds_5 20 rfl rfl)
theorem dX2_readEnds_139 : decode cX2_readEnds 139 = .ok (.iconst 0, 1) := dk_3 (dk_at dksX2_readEnds_5 23 rfl rfl)
theorem dX2_readEnds_140 : decode cX2_readEnds 140 = .ok (.istore_n 1, 1) := dk_60 (dk_at dksX2_readEnds_6 0 rfl rfl)
theorem dX2_readEnds_141 : decode cX2_readEnds 141 = .ok (.goto (-128), 3) := dk_167 255 128 (dk_at dksX2_readEnds_6 1 rfl rfl)
theorem dX2_readEnds_144 : decode cX2_readEnds 144 = .ok (.return_, 1) := dk_177 (dk_at dksX2_readEnds_6 4 rfl rfl)
abbrev cX2_readTimes : ByteArray := prog_21_method_32_code
def yX2_readTimes : MethodName := ⟨RX2, "readTimes", "()V"⟩
def dkwX2_readTimes_1 : List UInt8 := [184, 0, 233, 16, 9, 182, 1, 1, 61, 42, 180, 0, 139, 154, 0, 9, 42, 27, 28, 182, 1, 4, 177]
abbrev dktX2_readTimes_1 : List UInt8 := dkwX2_readTimes_1 ++ []
def dkwX2_readTimes_0 : List UInt8 := [42, 16, 42, 182, 0, 188, 153, 0, 40, 42, 182, 0, 177, 42, 3, 16, 9, 182, 1, 1, 60, 42, 4, 27]
abbrev dktX2_readTimes_0 : List UInt8 := dkwX2_readTimes_0 ++ dktX2_readTimes_1
theorem dksX2_readTimes_0 : cX2_readTimes.data.toList.drop 0 = dktX2_readTimes_0 := by decide +kernel
theorem dksX2_readTimes_1 : cX2_readTimes.data.toList.drop 24 = dktX2_readTimes_1 := dk_seg dksX2_readTimes_0 24 rfl rfl
theorem dX2_readTimes_0 : decode cX2_readTimes 0 = .ok (.aload_n 0, 1) := dk_42 (dk_at dksX2_readTimes_0 0 rfl rfl)
theorem dX2_readTimes_1 : decode cX2_readTimes 1 = .ok (.bipush 42, 2) := dk_16 42 (dk_at dksX2_readTimes_0 1 rfl rfl)
theorem dX2_readTimes_3 : decode cX2_readTimes 3 = .ok (.invokevirtual 188, 3) := dk_182 0 188 (dk_at dksX2_readTimes_0 3 rfl rfl)
theorem dX2_readTimes_6 : decode cX2_readTimes 6 = .ok (.ifCond .eq 40, 3) := dk_153 0 40 (dk_at dksX2_readTimes_0 6 rfl rfl)
theorem dX2_readTimes_9 : decode cX2_readTimes 9 = .ok (.aload_n 0, 1) := dk_42 (dk_at dksX2_readTimes_0 9 rfl rfl)
theorem dX2_readTimes_10 : decode cX2_readTimes 10 = .ok (.invokevirtual 177, 3) := dk_182 0 177 (dk_at dksX2_readTimes_0 10 rfl rfl)
theorem dX2_readTimes_13 : decode cX2_readTimes 13 = .ok (.aload_n 0, 1) := dk_42 (dk_at dksX2_readTimes_0 13 rfl rfl)
theorem dX2_readTimes_14 : decode cX2_readTimes 14 = .ok (.iconst 0, 1) := dk_3 (dk_at dksX2_readTimes_0 14 rfl rfl)
theorem dX2_readTimes_15 : decode cX2_readTimes 15 = .ok (.bipush 9, 2) := dk_16 9 (dk_at dksX2_readTimes_0 15 rfl rfl)
theorem dX2_readTimes_17 : decode cX2_readTimes 17 = .ok (.invokevirtual 257, 3) := dk_182 1 1 (dk_at dksX2_readTimes_0 17 rfl rfl)
theorem dX2_readTimes_20 : decode cX2_readTimes 20 = .ok (.istore_n 1, 1) := dk_60 (dk_at dksX2_readTimes_0 20 rfl rfl)
theorem dX2_readTimes_21 : decode cX2_readTimes 21 = .ok (.aload_n 0, 1) := dk_42 (dk_at dksX2_readTimes_0 21 rfl rfl)
theorem dX2_readTimes_22 : decode cX2_readTimes 22 = .ok (.iconst 1, 1) := dk_4 (dk_at dksX2_readTimes_0 22 rfl rfl)
theorem dX2_readTimes_23 : decode cX2_readTimes 23 = .ok (.iload_n 1, 1) := dk_27 (dk_at dksX2_readTimes_0 23 rfl rfl)
theorem dX2_readTimes_24 : decode cX2_readTimes 24 = .ok (.invokestatic 233, 3) := dk_184 0 233 (dk_at dksX2_readTimes_1 0 rfl rfl)
theorem dX2_readTimes_27 : decode cX2_readTimes 27 = .ok (.bipush 9, 2) := dk_16 9 (dk_at dksX2_readTimes_1 3 rfl rfl)
theorem dX2_readTimes_29 : decode cX2_readTimes 29 = .ok (.invokevirtual 257, 3) := dk_182 1 1 (dk_at dksX2_readTimes_1 5 rfl rfl)
theorem dX2_readTimes_32 : decode cX2_readTimes 32 = .ok (.istore_n 2, 1) := dk_61 (dk_at dksX2_readTimes_1 8 rfl rfl)
theorem dX2_readTimes_33 : decode cX2_readTimes 33 = .ok (.aload_n 0, 1) := dk_42 (dk_at dksX2_readTimes_1 9 rfl rfl)
theorem dX2_readTimes_34 : decode cX2_readTimes 34 = .ok (.getfield 139, 3) := dk_180 0 139 (dk_at dksX2_readTimes_1 10 rfl rfl)
theorem dX2_readTimes_37 : decode cX2_readTimes 37 = .ok (.ifCond .ne 9, 3) := dk_154 0 9 (dk_at dksX2_readTimes_1 13 rfl rfl)
theorem dX2_readTimes_40 : decode cX2_readTimes 40 = .ok (.aload_n 0, 1) := dk_42 (dk_at dksX2_readTimes_1 16 rfl rfl)
theorem dX2_readTimes_41 : decode cX2_readTimes 41 = .ok (.iload_n 1, 1) := dk_27 (dk_at dksX2_readTimes_1 17 rfl rfl)
theorem dX2_readTimes_42 : decode cX2_readTimes 42 = .ok (.iload_n 2, 1) := dk_28 (dk_at dksX2_readTimes_1 18 rfl rfl)
theorem dX2_readTimes_43 : decode cX2_readTimes 43 = .ok (.invokevirtual 260, 3) := dk_182 1 4 (dk_at dksX2_readTimes_1 19 rfl rfl)
theorem dX2_readTimes_46 : decode cX2_readTimes 46 = .ok (.return_, 1) := dk_177 (dk_at dksX2_readTimes_1 22 rfl rfl)
abbrev cX2_readNumber : ByteArray := prog_21_method_14_code
def yX2_readNumber : MethodName := ⟨RX2, "readNumber", "(II)I"⟩
def dkwX2_readNumber_3 : List UInt8 := [172]
abbrev dktX2_readNumber_3 : List UInt8 := dkwX2_readNumber_3 ++ []
def dkwX2_readNumber_2 : List UInt8 := [182, 0, 165, 42, 180, 0, 139, 154, 0, 10, 42, 180, 0, 162, 167, 0, 4, 3, 62, 42, 182, 0, 177, 29]
abbrev dktX2_readNumber_2 : List UInt8 := dkwX2_readNumber_2 ++ dktX2_readNumber_3
def dkwX2_readNumber_1 : List UInt8 := [182, 0, 165, 42, 180, 0, 139, 154, 0, 20, 42, 42, 180, 0, 162, 133, 27, 133, 28, 133, 184, 0, 131, 6]
abbrev dktX2_readNumber_1 : List UInt8 := dkwX2_readNumber_1 ++ dktX2_readNumber_2
def dkwX2_readNumber_0 : List UInt8 := [42, 180, 0, 139, 154, 0, 21, 42, 42, 180, 0, 155, 5, 160, 0, 7, 4, 167, 0, 4, 3, 5]
abbrev dktX2_readNumber_0 : List UInt8 := dkwX2_readNumber_0 ++ dktX2_readNumber_1
theorem dksX2_readNumber_0 : cX2_readNumber.data.toList.drop 0 = dktX2_readNumber_0 := by decide +kernel
theorem dksX2_readNumber_1 : cX2_readNumber.data.toList.drop 22 = dktX2_readNumber_1 := dk_seg dksX2_readNumber_0 22 rfl rfl
theorem dksX2_readNumber_2 : cX2_readNumber.data.toList.drop 46 = dktX2_readNumber_2 := dk_seg dksX2_readNumber_1 24 rfl rfl
theorem dksX2_readNumber_3 : cX2_readNumber.data.toList.drop 70 = dktX2_readNumber_3 := dk_seg dksX2_readNumber_2 24 rfl rfl
theorem dX2_readNumber_0 : decode cX2_readNumber 0 = .ok (.aload_n 0, 1) := dk_42 (dk_at dksX2_readNumber_0 0 rfl rfl)
theorem dX2_readNumber_1 : decode cX2_readNumber 1 = .ok (.getfield 139, 3) := dk_180 0 139 (dk_at dksX2_readNumber_0 1 rfl rfl)
theorem dX2_readNumber_4 : decode cX2_readNumber 4 = .ok (.ifCond .ne 21, 3) := dk_154 0 21 (dk_at dksX2_readNumber_0 4 rfl rfl)
theorem dX2_readNumber_7 : decode cX2_readNumber 7 = .ok (.aload_n 0, 1) := dk_42 (dk_at dksX2_readNumber_0 7 rfl rfl)
theorem dX2_readNumber_8 : decode cX2_readNumber 8 = .ok (.aload_n 0, 1) := dk_42 (dk_at dksX2_readNumber_0 8 rfl rfl)
theorem dX2_readNumber_9 : decode cX2_readNumber 9 = .ok (.getfield 155, 3) := dk_180 0 155 (dk_at dksX2_readNumber_0 9 rfl rfl)
theorem dX2_readNumber_12 : decode cX2_readNumber 12 = .ok (.iconst 2, 1) := dk_5 (dk_at dksX2_readNumber_0 12 rfl rfl)
theorem dX2_readNumber_13 : decode cX2_readNumber 13 = .ok (.if_icmp .ne 7, 3) := dk_160 0 7 (dk_at dksX2_readNumber_0 13 rfl rfl)
theorem dX2_readNumber_16 : decode cX2_readNumber 16 = .ok (.iconst 1, 1) := dk_4 (dk_at dksX2_readNumber_0 16 rfl rfl)
theorem dX2_readNumber_17 : decode cX2_readNumber 17 = .ok (.goto 4, 3) := dk_167 0 4 (dk_at dksX2_readNumber_0 17 rfl rfl)
theorem dX2_readNumber_20 : decode cX2_readNumber 20 = .ok (.iconst 0, 1) := dk_3 (dk_at dksX2_readNumber_0 20 rfl rfl)
theorem dX2_readNumber_21 : decode cX2_readNumber 21 = .ok (.iconst 2, 1) := dk_5 (dk_at dksX2_readNumber_0 21 rfl rfl)
theorem dX2_readNumber_22 : decode cX2_readNumber 22 = .ok (.invokevirtual 165, 3) := dk_182 0 165 (dk_at dksX2_readNumber_1 0 rfl rfl)
theorem dX2_readNumber_25 : decode cX2_readNumber 25 = .ok (.aload_n 0, 1) := dk_42 (dk_at dksX2_readNumber_1 3 rfl rfl)
theorem dX2_readNumber_26 : decode cX2_readNumber 26 = .ok (.getfield 139, 3) := dk_180 0 139 (dk_at dksX2_readNumber_1 4 rfl rfl)
theorem dX2_readNumber_29 : decode cX2_readNumber 29 = .ok (.ifCond .ne 20, 3) := dk_154 0 20 (dk_at dksX2_readNumber_1 7 rfl rfl)
theorem dX2_readNumber_32 : decode cX2_readNumber 32 = .ok (.aload_n 0, 1) := dk_42 (dk_at dksX2_readNumber_1 10 rfl rfl)
theorem dX2_readNumber_33 : decode cX2_readNumber 33 = .ok (.aload_n 0, 1) := dk_42 (dk_at dksX2_readNumber_1 11 rfl rfl)
theorem dX2_readNumber_34 : decode cX2_readNumber 34 = .ok (.getfield 162, 3) := dk_180 0 162 (dk_at dksX2_readNumber_1 12 rfl rfl)
theorem dX2_readNumber_37 : decode cX2_readNumber 37 = .ok (.i2l, 1) := dk_133 (dk_at dksX2_readNumber_1 15 rfl rfl)
theorem dX2_readNumber_38 : decode cX2_readNumber 38 = .ok (.iload_n 1, 1) := dk_27 (dk_at dksX2_readNumber_1 16 rfl rfl)
theorem dX2_readNumber_39 : decode cX2_readNumber 39 = .ok (.i2l, 1) := dk_133 (dk_at dksX2_readNumber_1 17 rfl rfl)
theorem dX2_readNumber_40 : decode cX2_readNumber 40 = .ok (.iload_n 2, 1) := dk_28 (dk_at dksX2_readNumber_1 18 rfl rfl)
theorem dX2_readNumber_41 : decode cX2_readNumber 41 = .ok (.i2l, 1) := dk_133 (dk_at dksX2_readNumber_1 19 rfl rfl)
theorem dX2_readNumber_42 : decode cX2_readNumber 42 = .ok (.invokestatic 131, 3) := dk_184 0 131 (dk_at dksX2_readNumber_1 20 rfl rfl)
theorem dX2_readNumber_45 : decode cX2_readNumber 45 = .ok (.iconst 3, 1) := dk_6 (dk_at dksX2_readNumber_1 23 rfl rfl)
theorem dX2_readNumber_46 : decode cX2_readNumber 46 = .ok (.invokevirtual 165, 3) := dk_182 0 165 (dk_at dksX2_readNumber_2 0 rfl rfl)
theorem dX2_readNumber_49 : decode cX2_readNumber 49 = .ok (.aload_n 0, 1) := dk_42 (dk_at dksX2_readNumber_2 3 rfl rfl)
theorem dX2_readNumber_50 : decode cX2_readNumber 50 = .ok (.getfield 139, 3) := dk_180 0 139 (dk_at dksX2_readNumber_2 4 rfl rfl)
theorem dX2_readNumber_53 : decode cX2_readNumber 53 = .ok (.ifCond .ne 10, 3) := dk_154 0 10 (dk_at dksX2_readNumber_2 7 rfl rfl)
theorem dX2_readNumber_56 : decode cX2_readNumber 56 = .ok (.aload_n 0, 1) := dk_42 (dk_at dksX2_readNumber_2 10 rfl rfl)
theorem dX2_readNumber_57 : decode cX2_readNumber 57 = .ok (.getfield 162, 3) := dk_180 0 162 (dk_at dksX2_readNumber_2 11 rfl rfl)
theorem dX2_readNumber_60 : decode cX2_readNumber 60 = .ok (.goto 4, 3) := dk_167 0 4 (dk_at dksX2_readNumber_2 14 rfl rfl)
theorem dX2_readNumber_63 : decode cX2_readNumber 63 = .ok (.iconst 0, 1) := dk_3 (dk_at dksX2_readNumber_2 17 rfl rfl)
theorem dX2_readNumber_64 : decode cX2_readNumber 64 = .ok (.istore_n 3, 1) := dk_62 (dk_at dksX2_readNumber_2 18 rfl rfl)
theorem dX2_readNumber_65 : decode cX2_readNumber 65 = .ok (.aload_n 0, 1) := dk_42 (dk_at dksX2_readNumber_2 19 rfl rfl)
theorem dX2_readNumber_66 : decode cX2_readNumber 66 = .ok (.invokevirtual 177, 3) := dk_182 0 177 (dk_at dksX2_readNumber_2 20 rfl rfl)
theorem dX2_readNumber_69 : decode cX2_readNumber 69 = .ok (.iload_n 3, 1) := dk_29 (dk_at dksX2_readNumber_2 23 rfl rfl)
theorem dX2_readNumber_70 : decode cX2_readNumber 70 = .ok (.ireturn, 1) := dk_172 (dk_at dksX2_readNumber_3 0 rfl rfl)
abbrev cX2_greatest : ByteArray := prog_21_method_6_code
def yX2_greatest : MethodName := ⟨RX2, "greatest", "(II)I"⟩
def dkwX2_greatest_0 : List UInt8 := [26, 27, 164, 0, 7, 26, 167, 0, 4, 27, 172]
abbrev dktX2_greatest_0 : List UInt8 := dkwX2_greatest_0 ++ []
theorem dksX2_greatest_0 : cX2_greatest.data.toList.drop 0 = dktX2_greatest_0 := by decide +kernel
theorem dX2_greatest_0 : decode cX2_greatest 0 = .ok (.iload_n 0, 1) := dk_26 (dk_at dksX2_greatest_0 0 rfl rfl)
theorem dX2_greatest_1 : decode cX2_greatest 1 = .ok (.iload_n 1, 1) := dk_27 (dk_at dksX2_greatest_0 1 rfl rfl)
theorem dX2_greatest_2 : decode cX2_greatest 2 = .ok (.if_icmp .le 7, 3) := dk_164 0 7 (dk_at dksX2_greatest_0 2 rfl rfl)
theorem dX2_greatest_5 : decode cX2_greatest 5 = .ok (.iload_n 0, 1) := dk_26 (dk_at dksX2_greatest_0 5 rfl rfl)
theorem dX2_greatest_6 : decode cX2_greatest 6 = .ok (.goto 4, 3) := dk_167 0 4 (dk_at dksX2_greatest_0 6 rfl rfl)
theorem dX2_greatest_9 : decode cX2_greatest 9 = .ok (.iload_n 1, 1) := dk_27 (dk_at dksX2_greatest_0 9 rfl rfl)
theorem dX2_greatest_10 : decode cX2_greatest 10 = .ok (.ireturn, 1) := dk_172 (dk_at dksX2_greatest_0 10 rfl rfl)
abbrev cX2_repeats : ByteArray := prog_21_method_29_code
def yX2_repeats : MethodName := ⟨RX2, "repeats", "(II)V"⟩
def dkwX2_repeats_18 : List UInt8 := [184, 0, 218, 79, 177]
abbrev dktX2_repeats_18 : List UInt8 := dkwX2_repeats_18 ++ []
def dkwX2_repeats_17 : List UInt8 := [3, 46, 104, 18, 217, 184, 0, 218, 79, 42, 180, 0, 99, 3, 28, 42, 180, 0, 99, 3, 46, 104, 18, 217]
abbrev dktX2_repeats_17 : List UInt8 := dkwX2_repeats_17 ++ dktX2_repeats_18
def dkwX2_repeats_16 : List UInt8 := [28, 42, 180, 0, 93, 3, 46, 104, 18, 217, 184, 0, 218, 79, 42, 180, 0, 96, 3, 27, 42, 180, 0, 96]
abbrev dktX2_repeats_16 : List UInt8 := dkwX2_repeats_16 ++ dktX2_repeats_17
def dkwX2_repeats_15 : List UInt8 := [180, 0, 90, 3, 21, 9, 154, 0, 7, 27, 154, 0, 7, 4, 167, 0, 4, 3, 84, 42, 180, 0, 93, 3]
abbrev dktX2_repeats_15 : List UInt8 := dkwX2_repeats_15 ++ dktX2_repeats_16
def dkwX2_repeats_14 : List UInt8 := [132, 15, 1, 167, 255, 154, 42, 180, 0, 84, 3, 22, 10, 80, 42, 180, 0, 87, 3, 22, 12, 80, 42]
abbrev dktX2_repeats_14 : List UInt8 := dkwX2_repeats_14 ++ dktX2_repeats_15
def dkwX2_repeats_13 : List UInt8 := [167, 0, 4, 9, 129, 55, 12, 21, 14, 153, 0, 12, 21, 16, 153, 0, 7, 4, 167, 0, 4, 3, 54, 14]
abbrev dktX2_repeats_13 : List UInt8 := dkwX2_repeats_13 ++ dktX2_repeats_14
def dkwX2_repeats_12 : List UInt8 := [167, 0, 4, 9, 129, 55, 10, 22, 7, 21, 15, 21, 4, 104, 121, 21, 16, 153, 0, 8, 22, 12]
abbrev dktX2_repeats_12 : List UInt8 := dkwX2_repeats_12 ++ dktX2_repeats_13
def dkwX2_repeats_11 : List UInt8 := [21, 15, 21, 4, 104, 121, 182, 0, 226, 22, 10, 21, 14, 153, 0, 14, 22, 5, 21, 15, 21, 4, 104, 121]
abbrev dktX2_repeats_11 : List UInt8 := dkwX2_repeats_11 ++ dktX2_repeats_12
def dkwX2_repeats_10 : List UInt8 := [21, 9, 154, 0, 9, 21, 15, 27, 161, 0, 7, 4, 167, 0, 4, 3, 54, 16, 42, 22, 12, 22, 5]
abbrev dktX2_repeats_10 : List UInt8 := dkwX2_repeats_10 ++ dktX2_repeats_11
def dkwX2_repeats_9 : List UInt8 := [154, 0, 7, 27, 154, 0, 7, 4, 167, 0, 4, 3, 54, 14, 4, 54, 15, 21, 15, 28, 162, 0, 102]
abbrev dktX2_repeats_9 : List UInt8 := dkwX2_repeats_9 ++ dktX2_repeats_10
def dkwX2_repeats_8 : List UInt8 := [180, 0, 214, 104, 3, 96, 29, 28, 21, 4, 104, 96, 79, 22, 5, 55, 10, 22, 7, 55, 12, 21, 9]
abbrev dktX2_repeats_8 : List UInt8 := dkwX2_repeats_8 ++ dktX2_repeats_9
def dkwX2_repeats_7 : List UInt8 := [29, 96, 21, 10, 21, 4, 112, 96, 46, 79, 132, 10, 1, 167, 255, 157, 42, 180, 0, 13, 16, 45, 42]
abbrev dktX2_repeats_7 : List UInt8 := dkwX2_repeats_7 ++ dktX2_repeats_8
def dkwX2_repeats_6 : List UInt8 := [180, 0, 214, 104, 8, 96, 29, 96, 21, 10, 96, 42, 180, 0, 13, 16, 45, 42, 180, 0, 214, 104, 8, 96]
abbrev dktX2_repeats_6 : List UInt8 := dkwX2_repeats_6 ++ dktX2_repeats_7
def dkwX2_repeats_5 : List UInt8 := [21, 4, 112, 96, 47, 21, 10, 21, 4, 108, 21, 4, 104, 121, 80, 42, 180, 0, 13, 16, 45, 42]
abbrev dktX2_repeats_5 : List UInt8 := dkwX2_repeats_5 ++ dktX2_repeats_6
def dkwX2_repeats_4 : List UInt8 := [6, 96, 29, 96, 54, 11, 42, 180, 0, 20, 21, 11, 21, 10, 96, 42, 180, 0, 20, 21, 11, 21, 10]
abbrev dktX2_repeats_4 : List UInt8 := dkwX2_repeats_4 ++ dktX2_repeats_5
def dkwX2_repeats_3 : List UInt8 := [154, 1, 21, 21, 4, 54, 10, 21, 10, 28, 21, 4, 104, 162, 0, 96, 17, 0, 203, 42, 180, 0, 214, 104]
abbrev dktX2_repeats_3 : List UInt8 := dkwX2_repeats_3 ++ dktX2_repeats_4
def dkwX2_repeats_2 : List UInt8 := [28, 21, 4, 104, 96, 16, 40, 164, 0, 7, 4, 167, 0, 4, 3, 181, 0, 236, 42, 180, 0, 236]
abbrev dktX2_repeats_2 : List UInt8 := dkwX2_repeats_2 ++ dktX2_repeats_3
def dkwX2_repeats_1 : List UInt8 := [180, 0, 87, 3, 47, 55, 7, 42, 180, 0, 90, 3, 51, 54, 9, 42, 42, 180, 0, 236, 154, 0, 14, 29]
abbrev dktX2_repeats_1 : List UInt8 := dkwX2_repeats_1 ++ dktX2_repeats_2
def dkwX2_repeats_0 : List UInt8 := [42, 180, 0, 81, 3, 46, 62, 42, 182, 0, 240, 29, 100, 54, 4, 42, 180, 0, 84, 3, 47, 55, 5, 42]
abbrev dktX2_repeats_0 : List UInt8 := dkwX2_repeats_0 ++ dktX2_repeats_1
theorem dksX2_repeats_0 : cX2_repeats.data.toList.drop 0 = dktX2_repeats_0 := by decide +kernel
theorem dksX2_repeats_1 : cX2_repeats.data.toList.drop 24 = dktX2_repeats_1 := dk_seg dksX2_repeats_0 24 rfl rfl
theorem dksX2_repeats_2 : cX2_repeats.data.toList.drop 48 = dktX2_repeats_2 := dk_seg dksX2_repeats_1 24 rfl rfl
theorem dksX2_repeats_3 : cX2_repeats.data.toList.drop 70 = dktX2_repeats_3 := dk_seg dksX2_repeats_2 22 rfl rfl
theorem dksX2_repeats_4 : cX2_repeats.data.toList.drop 94 = dktX2_repeats_4 := dk_seg dksX2_repeats_3 24 rfl rfl
theorem dksX2_repeats_5 : cX2_repeats.data.toList.drop 117 = dktX2_repeats_5 := dk_seg dksX2_repeats_4 23 rfl rfl
theorem dksX2_repeats_6 : cX2_repeats.data.toList.drop 139 = dktX2_repeats_6 := dk_seg dksX2_repeats_5 22 rfl rfl
theorem dksX2_repeats_7 : cX2_repeats.data.toList.drop 163 = dktX2_repeats_7 := dk_seg dksX2_repeats_6 24 rfl rfl
theorem dksX2_repeats_8 : cX2_repeats.data.toList.drop 186 = dktX2_repeats_8 := dk_seg dksX2_repeats_7 23 rfl rfl
theorem dksX2_repeats_9 : cX2_repeats.data.toList.drop 209 = dktX2_repeats_9 := dk_seg dksX2_repeats_8 23 rfl rfl
theorem dksX2_repeats_10 : cX2_repeats.data.toList.drop 232 = dktX2_repeats_10 := dk_seg dksX2_repeats_9 23 rfl rfl
theorem dksX2_repeats_11 : cX2_repeats.data.toList.drop 255 = dktX2_repeats_11 := dk_seg dksX2_repeats_10 23 rfl rfl
theorem dksX2_repeats_12 : cX2_repeats.data.toList.drop 279 = dktX2_repeats_12 := dk_seg dksX2_repeats_11 24 rfl rfl
theorem dksX2_repeats_13 : cX2_repeats.data.toList.drop 301 = dktX2_repeats_13 := dk_seg dksX2_repeats_12 22 rfl rfl
theorem dksX2_repeats_14 : cX2_repeats.data.toList.drop 325 = dktX2_repeats_14 := dk_seg dksX2_repeats_13 24 rfl rfl
theorem dksX2_repeats_15 : cX2_repeats.data.toList.drop 348 = dktX2_repeats_15 := dk_seg dksX2_repeats_14 23 rfl rfl
theorem dksX2_repeats_16 : cX2_repeats.data.toList.drop 372 = dktX2_repeats_16 := dk_seg dksX2_repeats_15 24 rfl rfl
theorem dksX2_repeats_17 : cX2_repeats.data.toList.drop 396 = dktX2_repeats_17 := dk_seg dksX2_repeats_16 24 rfl rfl
theorem dksX2_repeats_18 : cX2_repeats.data.toList.drop 420 = dktX2_repeats_18 := dk_seg dksX2_repeats_17 24 rfl rfl
theorem dX2_repeats_0 : decode cX2_repeats 0 = .ok (.aload_n 0, 1) := dk_42 (dk_at dksX2_repeats_0 0 rfl rfl)
theorem dX2_repeats_1 : decode cX2_repeats 1 = .ok (.getfield 81, 3) := dk_180 0 81 (dk_at dksX2_repeats_0 1 rfl rfl)
theorem dX2_repeats_4 : decode cX2_repeats 4 = .ok (.iconst 0, 1) := dk_3 (dk_at dksX2_repeats_0 4 rfl rfl)
theorem dX2_repeats_5 : decode cX2_repeats 5 = .ok (.iaload, 1) := dk_46 (dk_at dksX2_repeats_0 5 rfl rfl)
theorem dX2_repeats_6 : decode cX2_repeats 6 = .ok (.istore_n 3, 1) := dk_62 (dk_at dksX2_repeats_0 6 rfl rfl)
theorem dX2_repeats_7 : decode cX2_repeats 7 = .ok (.aload_n 0, 1) := dk_42 (dk_at dksX2_repeats_0 7 rfl rfl)
theorem dX2_repeats_8 : decode cX2_repeats 8 = .ok (.invokevirtual 240, 3) := dk_182 0 240 (dk_at dksX2_repeats_0 8 rfl rfl)
theorem dX2_repeats_11 : decode cX2_repeats 11 = .ok (.iload_n 3, 1) := dk_29 (dk_at dksX2_repeats_0 11 rfl rfl)
theorem dX2_repeats_12 : decode cX2_repeats 12 = .ok (.isub, 1) := dk_100 (dk_at dksX2_repeats_0 12 rfl rfl)
theorem dX2_repeats_13 : decode cX2_repeats 13 = .ok (.istore 4, 2) := dk_54 4 (dk_at dksX2_repeats_0 13 rfl rfl)
theorem dX2_repeats_15 : decode cX2_repeats 15 = .ok (.aload_n 0, 1) := dk_42 (dk_at dksX2_repeats_0 15 rfl rfl)
theorem dX2_repeats_16 : decode cX2_repeats 16 = .ok (.getfield 84, 3) := dk_180 0 84 (dk_at dksX2_repeats_0 16 rfl rfl)
theorem dX2_repeats_19 : decode cX2_repeats 19 = .ok (.iconst 0, 1) := dk_3 (dk_at dksX2_repeats_0 19 rfl rfl)
theorem dX2_repeats_20 : decode cX2_repeats 20 = .ok (.laload, 1) := dk_47 (dk_at dksX2_repeats_0 20 rfl rfl)
theorem dX2_repeats_21 : decode cX2_repeats 21 = .ok (.lstore 5, 2) := dk_55 5 (dk_at dksX2_repeats_0 21 rfl rfl)
theorem dX2_repeats_23 : decode cX2_repeats 23 = .ok (.aload_n 0, 1) := dk_42 (dk_at dksX2_repeats_0 23 rfl rfl)
theorem dX2_repeats_24 : decode cX2_repeats 24 = .ok (.getfield 87, 3) := dk_180 0 87 (dk_at dksX2_repeats_1 0 rfl rfl)
theorem dX2_repeats_27 : decode cX2_repeats 27 = .ok (.iconst 0, 1) := dk_3 (dk_at dksX2_repeats_1 3 rfl rfl)
theorem dX2_repeats_28 : decode cX2_repeats 28 = .ok (.laload, 1) := dk_47 (dk_at dksX2_repeats_1 4 rfl rfl)
theorem dX2_repeats_29 : decode cX2_repeats 29 = .ok (.lstore 7, 2) := dk_55 7 (dk_at dksX2_repeats_1 5 rfl rfl)
theorem dX2_repeats_31 : decode cX2_repeats 31 = .ok (.aload_n 0, 1) := dk_42 (dk_at dksX2_repeats_1 7 rfl rfl)
theorem dX2_repeats_32 : decode cX2_repeats 32 = .ok (.getfield 90, 3) := dk_180 0 90 (dk_at dksX2_repeats_1 8 rfl rfl)
theorem dX2_repeats_35 : decode cX2_repeats 35 = .ok (.iconst 0, 1) := dk_3 (dk_at dksX2_repeats_1 11 rfl rfl)
theorem dX2_repeats_36 : decode cX2_repeats 36 = .ok (.baload, 1) := dk_51 (dk_at dksX2_repeats_1 12 rfl rfl)
theorem dX2_repeats_37 : decode cX2_repeats 37 = .ok (.istore 9, 2) := dk_54 9 (dk_at dksX2_repeats_1 13 rfl rfl)
theorem dX2_repeats_39 : decode cX2_repeats 39 = .ok (.aload_n 0, 1) := dk_42 (dk_at dksX2_repeats_1 15 rfl rfl)
theorem dX2_repeats_40 : decode cX2_repeats 40 = .ok (.aload_n 0, 1) := dk_42 (dk_at dksX2_repeats_1 16 rfl rfl)
theorem dX2_repeats_41 : decode cX2_repeats 41 = .ok (.getfield 236, 3) := dk_180 0 236 (dk_at dksX2_repeats_1 17 rfl rfl)
theorem dX2_repeats_44 : decode cX2_repeats 44 = .ok (.ifCond .ne 14, 3) := dk_154 0 14 (dk_at dksX2_repeats_1 20 rfl rfl)
theorem dX2_repeats_47 : decode cX2_repeats 47 = .ok (.iload_n 3, 1) := dk_29 (dk_at dksX2_repeats_1 23 rfl rfl)
theorem dX2_repeats_48 : decode cX2_repeats 48 = .ok (.iload_n 2, 1) := dk_28 (dk_at dksX2_repeats_2 0 rfl rfl)
theorem dX2_repeats_49 : decode cX2_repeats 49 = .ok (.iload 4, 2) := dk_21 4 (dk_at dksX2_repeats_2 1 rfl rfl)
theorem dX2_repeats_51 : decode cX2_repeats 51 = .ok (.imul, 1) := dk_104 (dk_at dksX2_repeats_2 3 rfl rfl)
theorem dX2_repeats_52 : decode cX2_repeats 52 = .ok (.iadd, 1) := dk_96 (dk_at dksX2_repeats_2 4 rfl rfl)
theorem dX2_repeats_53 : decode cX2_repeats 53 = .ok (.bipush 40, 2) := dk_16 40 (dk_at dksX2_repeats_2 5 rfl rfl)
theorem dX2_repeats_55 : decode cX2_repeats 55 = .ok (.if_icmp .le 7, 3) := dk_164 0 7 (dk_at dksX2_repeats_2 7 rfl rfl)
theorem dX2_repeats_58 : decode cX2_repeats 58 = .ok (.iconst 1, 1) := dk_4 (dk_at dksX2_repeats_2 10 rfl rfl)
theorem dX2_repeats_59 : decode cX2_repeats 59 = .ok (.goto 4, 3) := dk_167 0 4 (dk_at dksX2_repeats_2 11 rfl rfl)
theorem dX2_repeats_62 : decode cX2_repeats 62 = .ok (.iconst 0, 1) := dk_3 (dk_at dksX2_repeats_2 14 rfl rfl)
theorem dX2_repeats_63 : decode cX2_repeats 63 = .ok (.putfield 236, 3) := dk_181 0 236 (dk_at dksX2_repeats_2 15 rfl rfl)
theorem dX2_repeats_66 : decode cX2_repeats 66 = .ok (.aload_n 0, 1) := dk_42 (dk_at dksX2_repeats_2 18 rfl rfl)
theorem dX2_repeats_67 : decode cX2_repeats 67 = .ok (.getfield 236, 3) := dk_180 0 236 (dk_at dksX2_repeats_2 19 rfl rfl)
theorem dX2_repeats_70 : decode cX2_repeats 70 = .ok (.ifCond .ne 277, 3) := dk_154 1 21 (dk_at dksX2_repeats_3 0 rfl rfl)
theorem dX2_repeats_73 : decode cX2_repeats 73 = .ok (.iload 4, 2) := dk_21 4 (dk_at dksX2_repeats_3 3 rfl rfl)
theorem dX2_repeats_75 : decode cX2_repeats 75 = .ok (.istore 10, 2) := dk_54 10 (dk_at dksX2_repeats_3 5 rfl rfl)
theorem dX2_repeats_77 : decode cX2_repeats 77 = .ok (.iload 10, 2) := dk_21 10 (dk_at dksX2_repeats_3 7 rfl rfl)
theorem dX2_repeats_79 : decode cX2_repeats 79 = .ok (.iload_n 2, 1) := dk_28 (dk_at dksX2_repeats_3 9 rfl rfl)
theorem dX2_repeats_80 : decode cX2_repeats 80 = .ok (.iload 4, 2) := dk_21 4 (dk_at dksX2_repeats_3 10 rfl rfl)
theorem dX2_repeats_82 : decode cX2_repeats 82 = .ok (.imul, 1) := dk_104 (dk_at dksX2_repeats_3 12 rfl rfl)
theorem dX2_repeats_83 : decode cX2_repeats 83 = .ok (.if_icmp .ge 96, 3) := dk_162 0 96 (dk_at dksX2_repeats_3 13 rfl rfl)
theorem dX2_repeats_86 : decode cX2_repeats 86 = .ok (.sipush 203, 3) := dk_17 0 203 (dk_at dksX2_repeats_3 16 rfl rfl)
theorem dX2_repeats_89 : decode cX2_repeats 89 = .ok (.aload_n 0, 1) := dk_42 (dk_at dksX2_repeats_3 19 rfl rfl)
theorem dX2_repeats_90 : decode cX2_repeats 90 = .ok (.getfield 214, 3) := dk_180 0 214 (dk_at dksX2_repeats_3 20 rfl rfl)
theorem dX2_repeats_93 : decode cX2_repeats 93 = .ok (.imul, 1) := dk_104 (dk_at dksX2_repeats_3 23 rfl rfl)
theorem dX2_repeats_94 : decode cX2_repeats 94 = .ok (.iconst 3, 1) := dk_6 (dk_at dksX2_repeats_4 0 rfl rfl)
theorem dX2_repeats_95 : decode cX2_repeats 95 = .ok (.iadd, 1) := dk_96 (dk_at dksX2_repeats_4 1 rfl rfl)
theorem dX2_repeats_96 : decode cX2_repeats 96 = .ok (.iload_n 3, 1) := dk_29 (dk_at dksX2_repeats_4 2 rfl rfl)
theorem dX2_repeats_97 : decode cX2_repeats 97 = .ok (.iadd, 1) := dk_96 (dk_at dksX2_repeats_4 3 rfl rfl)
theorem dX2_repeats_98 : decode cX2_repeats 98 = .ok (.istore 11, 2) := dk_54 11 (dk_at dksX2_repeats_4 4 rfl rfl)
theorem dX2_repeats_100 : decode cX2_repeats 100 = .ok (.aload_n 0, 1) := dk_42 (dk_at dksX2_repeats_4 6 rfl rfl)
theorem dX2_repeats_101 : decode cX2_repeats 101 = .ok (.getfield 20, 3) := dk_180 0 20 (dk_at dksX2_repeats_4 7 rfl rfl)
theorem dX2_repeats_104 : decode cX2_repeats 104 = .ok (.iload 11, 2) := dk_21 11 (dk_at dksX2_repeats_4 10 rfl rfl)
theorem dX2_repeats_106 : decode cX2_repeats 106 = .ok (.iload 10, 2) := dk_21 10 (dk_at dksX2_repeats_4 12 rfl rfl)
theorem dX2_repeats_108 : decode cX2_repeats 108 = .ok (.iadd, 1) := dk_96 (dk_at dksX2_repeats_4 14 rfl rfl)
theorem dX2_repeats_109 : decode cX2_repeats 109 = .ok (.aload_n 0, 1) := dk_42 (dk_at dksX2_repeats_4 15 rfl rfl)
theorem dX2_repeats_110 : decode cX2_repeats 110 = .ok (.getfield 20, 3) := dk_180 0 20 (dk_at dksX2_repeats_4 16 rfl rfl)
theorem dX2_repeats_113 : decode cX2_repeats 113 = .ok (.iload 11, 2) := dk_21 11 (dk_at dksX2_repeats_4 19 rfl rfl)
theorem dX2_repeats_115 : decode cX2_repeats 115 = .ok (.iload 10, 2) := dk_21 10 (dk_at dksX2_repeats_4 21 rfl rfl)
theorem dX2_repeats_117 : decode cX2_repeats 117 = .ok (.iload 4, 2) := dk_21 4 (dk_at dksX2_repeats_5 0 rfl rfl)
theorem dX2_repeats_119 : decode cX2_repeats 119 = .ok (.irem, 1) := dk_112 (dk_at dksX2_repeats_5 2 rfl rfl)
theorem dX2_repeats_120 : decode cX2_repeats 120 = .ok (.iadd, 1) := dk_96 (dk_at dksX2_repeats_5 3 rfl rfl)
theorem dX2_repeats_121 : decode cX2_repeats 121 = .ok (.laload, 1) := dk_47 (dk_at dksX2_repeats_5 4 rfl rfl)
theorem dX2_repeats_122 : decode cX2_repeats 122 = .ok (.iload 10, 2) := dk_21 10 (dk_at dksX2_repeats_5 5 rfl rfl)
theorem dX2_repeats_124 : decode cX2_repeats 124 = .ok (.iload 4, 2) := dk_21 4 (dk_at dksX2_repeats_5 7 rfl rfl)
theorem dX2_repeats_126 : decode cX2_repeats 126 = .ok (.idiv, 1) := dk_108 (dk_at dksX2_repeats_5 9 rfl rfl)
theorem dX2_repeats_127 : decode cX2_repeats 127 = .ok (.iload 4, 2) := dk_21 4 (dk_at dksX2_repeats_5 10 rfl rfl)
theorem dX2_repeats_129 : decode cX2_repeats 129 = .ok (.imul, 1) := dk_104 (dk_at dksX2_repeats_5 12 rfl rfl)
theorem dX2_repeats_130 : decode cX2_repeats 130 = .ok (.lshl, 1) := dk_121 (dk_at dksX2_repeats_5 13 rfl rfl)
theorem dX2_repeats_131 : decode cX2_repeats 131 = .ok (.lastore, 1) := dk_80 (dk_at dksX2_repeats_5 14 rfl rfl)
theorem dX2_repeats_132 : decode cX2_repeats 132 = .ok (.aload_n 0, 1) := dk_42 (dk_at dksX2_repeats_5 15 rfl rfl)
theorem dX2_repeats_133 : decode cX2_repeats 133 = .ok (.getfield 13, 3) := dk_180 0 13 (dk_at dksX2_repeats_5 16 rfl rfl)
theorem dX2_repeats_136 : decode cX2_repeats 136 = .ok (.bipush 45, 2) := dk_16 45 (dk_at dksX2_repeats_5 19 rfl rfl)
theorem dX2_repeats_138 : decode cX2_repeats 138 = .ok (.aload_n 0, 1) := dk_42 (dk_at dksX2_repeats_5 21 rfl rfl)
theorem dX2_repeats_139 : decode cX2_repeats 139 = .ok (.getfield 214, 3) := dk_180 0 214 (dk_at dksX2_repeats_6 0 rfl rfl)
theorem dX2_repeats_142 : decode cX2_repeats 142 = .ok (.imul, 1) := dk_104 (dk_at dksX2_repeats_6 3 rfl rfl)
theorem dX2_repeats_143 : decode cX2_repeats 143 = .ok (.iconst 5, 1) := dk_8 (dk_at dksX2_repeats_6 4 rfl rfl)
theorem dX2_repeats_144 : decode cX2_repeats 144 = .ok (.iadd, 1) := dk_96 (dk_at dksX2_repeats_6 5 rfl rfl)
theorem dX2_repeats_145 : decode cX2_repeats 145 = .ok (.iload_n 3, 1) := dk_29 (dk_at dksX2_repeats_6 6 rfl rfl)
theorem dX2_repeats_146 : decode cX2_repeats 146 = .ok (.iadd, 1) := dk_96 (dk_at dksX2_repeats_6 7 rfl rfl)
theorem dX2_repeats_147 : decode cX2_repeats 147 = .ok (.iload 10, 2) := dk_21 10 (dk_at dksX2_repeats_6 8 rfl rfl)
theorem dX2_repeats_149 : decode cX2_repeats 149 = .ok (.iadd, 1) := dk_96 (dk_at dksX2_repeats_6 10 rfl rfl)
theorem dX2_repeats_150 : decode cX2_repeats 150 = .ok (.aload_n 0, 1) := dk_42 (dk_at dksX2_repeats_6 11 rfl rfl)
theorem dX2_repeats_151 : decode cX2_repeats 151 = .ok (.getfield 13, 3) := dk_180 0 13 (dk_at dksX2_repeats_6 12 rfl rfl)
theorem dX2_repeats_154 : decode cX2_repeats 154 = .ok (.bipush 45, 2) := dk_16 45 (dk_at dksX2_repeats_6 15 rfl rfl)
theorem dX2_repeats_156 : decode cX2_repeats 156 = .ok (.aload_n 0, 1) := dk_42 (dk_at dksX2_repeats_6 17 rfl rfl)
theorem dX2_repeats_157 : decode cX2_repeats 157 = .ok (.getfield 214, 3) := dk_180 0 214 (dk_at dksX2_repeats_6 18 rfl rfl)
theorem dX2_repeats_160 : decode cX2_repeats 160 = .ok (.imul, 1) := dk_104 (dk_at dksX2_repeats_6 21 rfl rfl)
theorem dX2_repeats_161 : decode cX2_repeats 161 = .ok (.iconst 5, 1) := dk_8 (dk_at dksX2_repeats_6 22 rfl rfl)
theorem dX2_repeats_162 : decode cX2_repeats 162 = .ok (.iadd, 1) := dk_96 (dk_at dksX2_repeats_6 23 rfl rfl)
theorem dX2_repeats_163 : decode cX2_repeats 163 = .ok (.iload_n 3, 1) := dk_29 (dk_at dksX2_repeats_7 0 rfl rfl)
theorem dX2_repeats_164 : decode cX2_repeats 164 = .ok (.iadd, 1) := dk_96 (dk_at dksX2_repeats_7 1 rfl rfl)
theorem dX2_repeats_165 : decode cX2_repeats 165 = .ok (.iload 10, 2) := dk_21 10 (dk_at dksX2_repeats_7 2 rfl rfl)
theorem dX2_repeats_167 : decode cX2_repeats 167 = .ok (.iload 4, 2) := dk_21 4 (dk_at dksX2_repeats_7 4 rfl rfl)
theorem dX2_repeats_169 : decode cX2_repeats 169 = .ok (.irem, 1) := dk_112 (dk_at dksX2_repeats_7 6 rfl rfl)
theorem dX2_repeats_170 : decode cX2_repeats 170 = .ok (.iadd, 1) := dk_96 (dk_at dksX2_repeats_7 7 rfl rfl)
theorem dX2_repeats_171 : decode cX2_repeats 171 = .ok (.iaload, 1) := dk_46 (dk_at dksX2_repeats_7 8 rfl rfl)
theorem dX2_repeats_172 : decode cX2_repeats 172 = .ok (.iastore, 1) := dk_79 (dk_at dksX2_repeats_7 9 rfl rfl)
theorem dX2_repeats_173 : decode cX2_repeats 173 = .ok (.iinc 10 1, 3) := dk_132 10 1 (dk_at dksX2_repeats_7 10 rfl rfl)
theorem dX2_repeats_176 : decode cX2_repeats 176 = .ok (.goto (-99), 3) := dk_167 255 157 (dk_at dksX2_repeats_7 13 rfl rfl)
theorem dX2_repeats_179 : decode cX2_repeats 179 = .ok (.aload_n 0, 1) := dk_42 (dk_at dksX2_repeats_7 16 rfl rfl)
theorem dX2_repeats_180 : decode cX2_repeats 180 = .ok (.getfield 13, 3) := dk_180 0 13 (dk_at dksX2_repeats_7 17 rfl rfl)
theorem dX2_repeats_183 : decode cX2_repeats 183 = .ok (.bipush 45, 2) := dk_16 45 (dk_at dksX2_repeats_7 20 rfl rfl)
theorem dX2_repeats_185 : decode cX2_repeats 185 = .ok (.aload_n 0, 1) := dk_42 (dk_at dksX2_repeats_7 22 rfl rfl)
theorem dX2_repeats_186 : decode cX2_repeats 186 = .ok (.getfield 214, 3) := dk_180 0 214 (dk_at dksX2_repeats_8 0 rfl rfl)
theorem dX2_repeats_189 : decode cX2_repeats 189 = .ok (.imul, 1) := dk_104 (dk_at dksX2_repeats_8 3 rfl rfl)
theorem dX2_repeats_190 : decode cX2_repeats 190 = .ok (.iconst 0, 1) := dk_3 (dk_at dksX2_repeats_8 4 rfl rfl)
theorem dX2_repeats_191 : decode cX2_repeats 191 = .ok (.iadd, 1) := dk_96 (dk_at dksX2_repeats_8 5 rfl rfl)
theorem dX2_repeats_192 : decode cX2_repeats 192 = .ok (.iload_n 3, 1) := dk_29 (dk_at dksX2_repeats_8 6 rfl rfl)
theorem dX2_repeats_193 : decode cX2_repeats 193 = .ok (.iload_n 2, 1) := dk_28 (dk_at dksX2_repeats_8 7 rfl rfl)
theorem dX2_repeats_194 : decode cX2_repeats 194 = .ok (.iload 4, 2) := dk_21 4 (dk_at dksX2_repeats_8 8 rfl rfl)
theorem dX2_repeats_196 : decode cX2_repeats 196 = .ok (.imul, 1) := dk_104 (dk_at dksX2_repeats_8 10 rfl rfl)
theorem dX2_repeats_197 : decode cX2_repeats 197 = .ok (.iadd, 1) := dk_96 (dk_at dksX2_repeats_8 11 rfl rfl)
theorem dX2_repeats_198 : decode cX2_repeats 198 = .ok (.iastore, 1) := dk_79 (dk_at dksX2_repeats_8 12 rfl rfl)
theorem dX2_repeats_199 : decode cX2_repeats 199 = .ok (.lload 5, 2) := dk_22 5 (dk_at dksX2_repeats_8 13 rfl rfl)
theorem dX2_repeats_201 : decode cX2_repeats 201 = .ok (.lstore 10, 2) := dk_55 10 (dk_at dksX2_repeats_8 15 rfl rfl)
theorem dX2_repeats_203 : decode cX2_repeats 203 = .ok (.lload 7, 2) := dk_22 7 (dk_at dksX2_repeats_8 17 rfl rfl)
theorem dX2_repeats_205 : decode cX2_repeats 205 = .ok (.lstore 12, 2) := dk_55 12 (dk_at dksX2_repeats_8 19 rfl rfl)
theorem dX2_repeats_207 : decode cX2_repeats 207 = .ok (.iload 9, 2) := dk_21 9 (dk_at dksX2_repeats_8 21 rfl rfl)
theorem dX2_repeats_209 : decode cX2_repeats 209 = .ok (.ifCond .ne 7, 3) := dk_154 0 7 (dk_at dksX2_repeats_9 0 rfl rfl)
theorem dX2_repeats_212 : decode cX2_repeats 212 = .ok (.iload_n 1, 1) := dk_27 (dk_at dksX2_repeats_9 3 rfl rfl)
theorem dX2_repeats_213 : decode cX2_repeats 213 = .ok (.ifCond .ne 7, 3) := dk_154 0 7 (dk_at dksX2_repeats_9 4 rfl rfl)
theorem dX2_repeats_216 : decode cX2_repeats 216 = .ok (.iconst 1, 1) := dk_4 (dk_at dksX2_repeats_9 7 rfl rfl)
theorem dX2_repeats_217 : decode cX2_repeats 217 = .ok (.goto 4, 3) := dk_167 0 4 (dk_at dksX2_repeats_9 8 rfl rfl)
theorem dX2_repeats_220 : decode cX2_repeats 220 = .ok (.iconst 0, 1) := dk_3 (dk_at dksX2_repeats_9 11 rfl rfl)
theorem dX2_repeats_221 : decode cX2_repeats 221 = .ok (.istore 14, 2) := dk_54 14 (dk_at dksX2_repeats_9 12 rfl rfl)
theorem dX2_repeats_223 : decode cX2_repeats 223 = .ok (.iconst 1, 1) := dk_4 (dk_at dksX2_repeats_9 14 rfl rfl)
theorem dX2_repeats_224 : decode cX2_repeats 224 = .ok (.istore 15, 2) := dk_54 15 (dk_at dksX2_repeats_9 15 rfl rfl)
theorem dX2_repeats_226 : decode cX2_repeats 226 = .ok (.iload 15, 2) := dk_21 15 (dk_at dksX2_repeats_9 17 rfl rfl)
theorem dX2_repeats_228 : decode cX2_repeats 228 = .ok (.iload_n 2, 1) := dk_28 (dk_at dksX2_repeats_9 19 rfl rfl)
theorem dX2_repeats_229 : decode cX2_repeats 229 = .ok (.if_icmp .ge 102, 3) := dk_162 0 102 (dk_at dksX2_repeats_9 20 rfl rfl)
theorem dX2_repeats_232 : decode cX2_repeats 232 = .ok (.iload 9, 2) := dk_21 9 (dk_at dksX2_repeats_10 0 rfl rfl)
theorem dX2_repeats_234 : decode cX2_repeats 234 = .ok (.ifCond .ne 9, 3) := dk_154 0 9 (dk_at dksX2_repeats_10 2 rfl rfl)
theorem dX2_repeats_237 : decode cX2_repeats 237 = .ok (.iload 15, 2) := dk_21 15 (dk_at dksX2_repeats_10 5 rfl rfl)
theorem dX2_repeats_239 : decode cX2_repeats 239 = .ok (.iload_n 1, 1) := dk_27 (dk_at dksX2_repeats_10 7 rfl rfl)
theorem dX2_repeats_240 : decode cX2_repeats 240 = .ok (.if_icmp .lt 7, 3) := dk_161 0 7 (dk_at dksX2_repeats_10 8 rfl rfl)
theorem dX2_repeats_243 : decode cX2_repeats 243 = .ok (.iconst 1, 1) := dk_4 (dk_at dksX2_repeats_10 11 rfl rfl)
theorem dX2_repeats_244 : decode cX2_repeats 244 = .ok (.goto 4, 3) := dk_167 0 4 (dk_at dksX2_repeats_10 12 rfl rfl)
theorem dX2_repeats_247 : decode cX2_repeats 247 = .ok (.iconst 0, 1) := dk_3 (dk_at dksX2_repeats_10 15 rfl rfl)
theorem dX2_repeats_248 : decode cX2_repeats 248 = .ok (.istore 16, 2) := dk_54 16 (dk_at dksX2_repeats_10 16 rfl rfl)
theorem dX2_repeats_250 : decode cX2_repeats 250 = .ok (.aload_n 0, 1) := dk_42 (dk_at dksX2_repeats_10 18 rfl rfl)
theorem dX2_repeats_251 : decode cX2_repeats 251 = .ok (.lload 12, 2) := dk_22 12 (dk_at dksX2_repeats_10 19 rfl rfl)
theorem dX2_repeats_253 : decode cX2_repeats 253 = .ok (.lload 5, 2) := dk_22 5 (dk_at dksX2_repeats_10 21 rfl rfl)
theorem dX2_repeats_255 : decode cX2_repeats 255 = .ok (.iload 15, 2) := dk_21 15 (dk_at dksX2_repeats_11 0 rfl rfl)
theorem dX2_repeats_257 : decode cX2_repeats 257 = .ok (.iload 4, 2) := dk_21 4 (dk_at dksX2_repeats_11 2 rfl rfl)
theorem dX2_repeats_259 : decode cX2_repeats 259 = .ok (.imul, 1) := dk_104 (dk_at dksX2_repeats_11 4 rfl rfl)
theorem dX2_repeats_260 : decode cX2_repeats 260 = .ok (.lshl, 1) := dk_121 (dk_at dksX2_repeats_11 5 rfl rfl)
theorem dX2_repeats_261 : decode cX2_repeats 261 = .ok (.invokevirtual 226, 3) := dk_182 0 226 (dk_at dksX2_repeats_11 6 rfl rfl)
theorem dX2_repeats_264 : decode cX2_repeats 264 = .ok (.lload 10, 2) := dk_22 10 (dk_at dksX2_repeats_11 9 rfl rfl)
theorem dX2_repeats_266 : decode cX2_repeats 266 = .ok (.iload 14, 2) := dk_21 14 (dk_at dksX2_repeats_11 11 rfl rfl)
theorem dX2_repeats_268 : decode cX2_repeats 268 = .ok (.ifCond .eq 14, 3) := dk_153 0 14 (dk_at dksX2_repeats_11 13 rfl rfl)
theorem dX2_repeats_271 : decode cX2_repeats 271 = .ok (.lload 5, 2) := dk_22 5 (dk_at dksX2_repeats_11 16 rfl rfl)
theorem dX2_repeats_273 : decode cX2_repeats 273 = .ok (.iload 15, 2) := dk_21 15 (dk_at dksX2_repeats_11 18 rfl rfl)
theorem dX2_repeats_275 : decode cX2_repeats 275 = .ok (.iload 4, 2) := dk_21 4 (dk_at dksX2_repeats_11 20 rfl rfl)
theorem dX2_repeats_277 : decode cX2_repeats 277 = .ok (.imul, 1) := dk_104 (dk_at dksX2_repeats_11 22 rfl rfl)
theorem dX2_repeats_278 : decode cX2_repeats 278 = .ok (.lshl, 1) := dk_121 (dk_at dksX2_repeats_11 23 rfl rfl)
theorem dX2_repeats_279 : decode cX2_repeats 279 = .ok (.goto 4, 3) := dk_167 0 4 (dk_at dksX2_repeats_12 0 rfl rfl)
theorem dX2_repeats_282 : decode cX2_repeats 282 = .ok (.lconst 0, 1) := dk_9 (dk_at dksX2_repeats_12 3 rfl rfl)
theorem dX2_repeats_283 : decode cX2_repeats 283 = .ok (.lor, 1) := dk_129 (dk_at dksX2_repeats_12 4 rfl rfl)
theorem dX2_repeats_284 : decode cX2_repeats 284 = .ok (.lstore 10, 2) := dk_55 10 (dk_at dksX2_repeats_12 5 rfl rfl)
theorem dX2_repeats_286 : decode cX2_repeats 286 = .ok (.lload 7, 2) := dk_22 7 (dk_at dksX2_repeats_12 7 rfl rfl)
theorem dX2_repeats_288 : decode cX2_repeats 288 = .ok (.iload 15, 2) := dk_21 15 (dk_at dksX2_repeats_12 9 rfl rfl)
theorem dX2_repeats_290 : decode cX2_repeats 290 = .ok (.iload 4, 2) := dk_21 4 (dk_at dksX2_repeats_12 11 rfl rfl)
theorem dX2_repeats_292 : decode cX2_repeats 292 = .ok (.imul, 1) := dk_104 (dk_at dksX2_repeats_12 13 rfl rfl)
theorem dX2_repeats_293 : decode cX2_repeats 293 = .ok (.lshl, 1) := dk_121 (dk_at dksX2_repeats_12 14 rfl rfl)
theorem dX2_repeats_294 : decode cX2_repeats 294 = .ok (.iload 16, 2) := dk_21 16 (dk_at dksX2_repeats_12 15 rfl rfl)
theorem dX2_repeats_296 : decode cX2_repeats 296 = .ok (.ifCond .eq 8, 3) := dk_153 0 8 (dk_at dksX2_repeats_12 17 rfl rfl)
theorem dX2_repeats_299 : decode cX2_repeats 299 = .ok (.lload 12, 2) := dk_22 12 (dk_at dksX2_repeats_12 20 rfl rfl)
theorem dX2_repeats_301 : decode cX2_repeats 301 = .ok (.goto 4, 3) := dk_167 0 4 (dk_at dksX2_repeats_13 0 rfl rfl)
theorem dX2_repeats_304 : decode cX2_repeats 304 = .ok (.lconst 0, 1) := dk_9 (dk_at dksX2_repeats_13 3 rfl rfl)
theorem dX2_repeats_305 : decode cX2_repeats 305 = .ok (.lor, 1) := dk_129 (dk_at dksX2_repeats_13 4 rfl rfl)
theorem dX2_repeats_306 : decode cX2_repeats 306 = .ok (.lstore 12, 2) := dk_55 12 (dk_at dksX2_repeats_13 5 rfl rfl)
theorem dX2_repeats_308 : decode cX2_repeats 308 = .ok (.iload 14, 2) := dk_21 14 (dk_at dksX2_repeats_13 7 rfl rfl)
theorem dX2_repeats_310 : decode cX2_repeats 310 = .ok (.ifCond .eq 12, 3) := dk_153 0 12 (dk_at dksX2_repeats_13 9 rfl rfl)
theorem dX2_repeats_313 : decode cX2_repeats 313 = .ok (.iload 16, 2) := dk_21 16 (dk_at dksX2_repeats_13 12 rfl rfl)
theorem dX2_repeats_315 : decode cX2_repeats 315 = .ok (.ifCond .eq 7, 3) := dk_153 0 7 (dk_at dksX2_repeats_13 14 rfl rfl)
theorem dX2_repeats_318 : decode cX2_repeats 318 = .ok (.iconst 1, 1) := dk_4 (dk_at dksX2_repeats_13 17 rfl rfl)
theorem dX2_repeats_319 : decode cX2_repeats 319 = .ok (.goto 4, 3) := dk_167 0 4 (dk_at dksX2_repeats_13 18 rfl rfl)
theorem dX2_repeats_322 : decode cX2_repeats 322 = .ok (.iconst 0, 1) := dk_3 (dk_at dksX2_repeats_13 21 rfl rfl)
theorem dX2_repeats_323 : decode cX2_repeats 323 = .ok (.istore 14, 2) := dk_54 14 (dk_at dksX2_repeats_13 22 rfl rfl)
theorem dX2_repeats_325 : decode cX2_repeats 325 = .ok (.iinc 15 1, 3) := dk_132 15 1 (dk_at dksX2_repeats_14 0 rfl rfl)
theorem dX2_repeats_328 : decode cX2_repeats 328 = .ok (.goto (-102), 3) := dk_167 255 154 (dk_at dksX2_repeats_14 3 rfl rfl)
theorem dX2_repeats_331 : decode cX2_repeats 331 = .ok (.aload_n 0, 1) := dk_42 (dk_at dksX2_repeats_14 6 rfl rfl)
theorem dX2_repeats_332 : decode cX2_repeats 332 = .ok (.getfield 84, 3) := dk_180 0 84 (dk_at dksX2_repeats_14 7 rfl rfl)
theorem dX2_repeats_335 : decode cX2_repeats 335 = .ok (.iconst 0, 1) := dk_3 (dk_at dksX2_repeats_14 10 rfl rfl)
theorem dX2_repeats_336 : decode cX2_repeats 336 = .ok (.lload 10, 2) := dk_22 10 (dk_at dksX2_repeats_14 11 rfl rfl)
theorem dX2_repeats_338 : decode cX2_repeats 338 = .ok (.lastore, 1) := dk_80 (dk_at dksX2_repeats_14 13 rfl rfl)
theorem dX2_repeats_339 : decode cX2_repeats 339 = .ok (.aload_n 0, 1) := dk_42 (dk_at dksX2_repeats_14 14 rfl rfl)
theorem dX2_repeats_340 : decode cX2_repeats 340 = .ok (.getfield 87, 3) := dk_180 0 87 (dk_at dksX2_repeats_14 15 rfl rfl)
theorem dX2_repeats_343 : decode cX2_repeats 343 = .ok (.iconst 0, 1) := dk_3 (dk_at dksX2_repeats_14 18 rfl rfl)
theorem dX2_repeats_344 : decode cX2_repeats 344 = .ok (.lload 12, 2) := dk_22 12 (dk_at dksX2_repeats_14 19 rfl rfl)
theorem dX2_repeats_346 : decode cX2_repeats 346 = .ok (.lastore, 1) := dk_80 (dk_at dksX2_repeats_14 21 rfl rfl)
theorem dX2_repeats_347 : decode cX2_repeats 347 = .ok (.aload_n 0, 1) := dk_42 (dk_at dksX2_repeats_14 22 rfl rfl)
theorem dX2_repeats_348 : decode cX2_repeats 348 = .ok (.getfield 90, 3) := dk_180 0 90 (dk_at dksX2_repeats_15 0 rfl rfl)
theorem dX2_repeats_351 : decode cX2_repeats 351 = .ok (.iconst 0, 1) := dk_3 (dk_at dksX2_repeats_15 3 rfl rfl)
theorem dX2_repeats_352 : decode cX2_repeats 352 = .ok (.iload 9, 2) := dk_21 9 (dk_at dksX2_repeats_15 4 rfl rfl)
theorem dX2_repeats_354 : decode cX2_repeats 354 = .ok (.ifCond .ne 7, 3) := dk_154 0 7 (dk_at dksX2_repeats_15 6 rfl rfl)
theorem dX2_repeats_357 : decode cX2_repeats 357 = .ok (.iload_n 1, 1) := dk_27 (dk_at dksX2_repeats_15 9 rfl rfl)
theorem dX2_repeats_358 : decode cX2_repeats 358 = .ok (.ifCond .ne 7, 3) := dk_154 0 7 (dk_at dksX2_repeats_15 10 rfl rfl)
theorem dX2_repeats_361 : decode cX2_repeats 361 = .ok (.iconst 1, 1) := dk_4 (dk_at dksX2_repeats_15 13 rfl rfl)
theorem dX2_repeats_362 : decode cX2_repeats 362 = .ok (.goto 4, 3) := dk_167 0 4 (dk_at dksX2_repeats_15 14 rfl rfl)
theorem dX2_repeats_365 : decode cX2_repeats 365 = .ok (.iconst 0, 1) := dk_3 (dk_at dksX2_repeats_15 17 rfl rfl)
theorem dX2_repeats_366 : decode cX2_repeats 366 = .ok (.bastore, 1) := dk_84 (dk_at dksX2_repeats_15 18 rfl rfl)
theorem dX2_repeats_367 : decode cX2_repeats 367 = .ok (.aload_n 0, 1) := dk_42 (dk_at dksX2_repeats_15 19 rfl rfl)
theorem dX2_repeats_368 : decode cX2_repeats 368 = .ok (.getfield 93, 3) := dk_180 0 93 (dk_at dksX2_repeats_15 20 rfl rfl)
theorem dX2_repeats_371 : decode cX2_repeats 371 = .ok (.iconst 0, 1) := dk_3 (dk_at dksX2_repeats_15 23 rfl rfl)
theorem dX2_repeats_372 : decode cX2_repeats 372 = .ok (.iload_n 2, 1) := dk_28 (dk_at dksX2_repeats_16 0 rfl rfl)
theorem dX2_repeats_373 : decode cX2_repeats 373 = .ok (.aload_n 0, 1) := dk_42 (dk_at dksX2_repeats_16 1 rfl rfl)
theorem dX2_repeats_374 : decode cX2_repeats 374 = .ok (.getfield 93, 3) := dk_180 0 93 (dk_at dksX2_repeats_16 2 rfl rfl)
theorem dX2_repeats_377 : decode cX2_repeats 377 = .ok (.iconst 0, 1) := dk_3 (dk_at dksX2_repeats_16 5 rfl rfl)
theorem dX2_repeats_378 : decode cX2_repeats 378 = .ok (.iaload, 1) := dk_46 (dk_at dksX2_repeats_16 6 rfl rfl)
theorem dX2_repeats_379 : decode cX2_repeats 379 = .ok (.imul, 1) := dk_104 (dk_at dksX2_repeats_16 7 rfl rfl)
theorem dX2_repeats_380 : decode cX2_repeats 380 = .ok (.ldc 217, 2) := dk_18 217 (dk_at dksX2_repeats_16 8 rfl rfl)
theorem dX2_repeats_382 : decode cX2_repeats 382 = .ok (.invokestatic 218, 3) := dk_184 0 218 (dk_at dksX2_repeats_16 10 rfl rfl)
theorem dX2_repeats_385 : decode cX2_repeats 385 = .ok (.iastore, 1) := dk_79 (dk_at dksX2_repeats_16 13 rfl rfl)
theorem dX2_repeats_386 : decode cX2_repeats 386 = .ok (.aload_n 0, 1) := dk_42 (dk_at dksX2_repeats_16 14 rfl rfl)
theorem dX2_repeats_387 : decode cX2_repeats 387 = .ok (.getfield 96, 3) := dk_180 0 96 (dk_at dksX2_repeats_16 15 rfl rfl)
theorem dX2_repeats_390 : decode cX2_repeats 390 = .ok (.iconst 0, 1) := dk_3 (dk_at dksX2_repeats_16 18 rfl rfl)
theorem dX2_repeats_391 : decode cX2_repeats 391 = .ok (.iload_n 1, 1) := dk_27 (dk_at dksX2_repeats_16 19 rfl rfl)
theorem dX2_repeats_392 : decode cX2_repeats 392 = .ok (.aload_n 0, 1) := dk_42 (dk_at dksX2_repeats_16 20 rfl rfl)
theorem dX2_repeats_393 : decode cX2_repeats 393 = .ok (.getfield 96, 3) := dk_180 0 96 (dk_at dksX2_repeats_16 21 rfl rfl)
theorem dX2_repeats_396 : decode cX2_repeats 396 = .ok (.iconst 0, 1) := dk_3 (dk_at dksX2_repeats_17 0 rfl rfl)
theorem dX2_repeats_397 : decode cX2_repeats 397 = .ok (.iaload, 1) := dk_46 (dk_at dksX2_repeats_17 1 rfl rfl)
theorem dX2_repeats_398 : decode cX2_repeats 398 = .ok (.imul, 1) := dk_104 (dk_at dksX2_repeats_17 2 rfl rfl)
theorem dX2_repeats_399 : decode cX2_repeats 399 = .ok (.ldc 217, 2) := dk_18 217 (dk_at dksX2_repeats_17 3 rfl rfl)
theorem dX2_repeats_401 : decode cX2_repeats 401 = .ok (.invokestatic 218, 3) := dk_184 0 218 (dk_at dksX2_repeats_17 5 rfl rfl)
theorem dX2_repeats_404 : decode cX2_repeats 404 = .ok (.iastore, 1) := dk_79 (dk_at dksX2_repeats_17 8 rfl rfl)
theorem dX2_repeats_405 : decode cX2_repeats 405 = .ok (.aload_n 0, 1) := dk_42 (dk_at dksX2_repeats_17 9 rfl rfl)
theorem dX2_repeats_406 : decode cX2_repeats 406 = .ok (.getfield 99, 3) := dk_180 0 99 (dk_at dksX2_repeats_17 10 rfl rfl)
theorem dX2_repeats_409 : decode cX2_repeats 409 = .ok (.iconst 0, 1) := dk_3 (dk_at dksX2_repeats_17 13 rfl rfl)
theorem dX2_repeats_410 : decode cX2_repeats 410 = .ok (.iload_n 2, 1) := dk_28 (dk_at dksX2_repeats_17 14 rfl rfl)
theorem dX2_repeats_411 : decode cX2_repeats 411 = .ok (.aload_n 0, 1) := dk_42 (dk_at dksX2_repeats_17 15 rfl rfl)
theorem dX2_repeats_412 : decode cX2_repeats 412 = .ok (.getfield 99, 3) := dk_180 0 99 (dk_at dksX2_repeats_17 16 rfl rfl)
theorem dX2_repeats_415 : decode cX2_repeats 415 = .ok (.iconst 0, 1) := dk_3 (dk_at dksX2_repeats_17 19 rfl rfl)
theorem dX2_repeats_416 : decode cX2_repeats 416 = .ok (.iaload, 1) := dk_46 (dk_at dksX2_repeats_17 20 rfl rfl)
theorem dX2_repeats_417 : decode cX2_repeats 417 = .ok (.imul, 1) := dk_104 (dk_at dksX2_repeats_17 21 rfl rfl)
theorem dX2_repeats_418 : decode cX2_repeats 418 = .ok (.ldc 217, 2) := dk_18 217 (dk_at dksX2_repeats_17 22 rfl rfl)
theorem dX2_repeats_420 : decode cX2_repeats 420 = .ok (.invokestatic 218, 3) := dk_184 0 218 (dk_at dksX2_repeats_18 0 rfl rfl)
theorem dX2_repeats_423 : decode cX2_repeats 423 = .ok (.iastore, 1) := dk_79 (dk_at dksX2_repeats_18 3 rfl rfl)
theorem dX2_repeats_424 : decode cX2_repeats 424 = .ok (.return_, 1) := dk_177 (dk_at dksX2_repeats_18 4 rfl rfl)
abbrev cX2_placesNow : ByteArray := prog_21_method_22_code
def yX2_placesNow : MethodName := ⟨RX2, "placesNow", "()I"⟩
def dkwX2_placesNow_0 : List UInt8 := [42, 180, 0, 13, 16, 45, 42, 180, 0, 214, 104, 3, 96, 46, 172]
abbrev dktX2_placesNow_0 : List UInt8 := dkwX2_placesNow_0 ++ []
theorem dksX2_placesNow_0 : cX2_placesNow.data.toList.drop 0 = dktX2_placesNow_0 := by decide +kernel
theorem dX2_placesNow_0 : decode cX2_placesNow 0 = .ok (.aload_n 0, 1) := dk_42 (dk_at dksX2_placesNow_0 0 rfl rfl)
theorem dX2_placesNow_1 : decode cX2_placesNow 1 = .ok (.getfield 13, 3) := dk_180 0 13 (dk_at dksX2_placesNow_0 1 rfl rfl)
theorem dX2_placesNow_4 : decode cX2_placesNow 4 = .ok (.bipush 45, 2) := dk_16 45 (dk_at dksX2_placesNow_0 4 rfl rfl)
theorem dX2_placesNow_6 : decode cX2_placesNow 6 = .ok (.aload_n 0, 1) := dk_42 (dk_at dksX2_placesNow_0 6 rfl rfl)
theorem dX2_placesNow_7 : decode cX2_placesNow 7 = .ok (.getfield 214, 3) := dk_180 0 214 (dk_at dksX2_placesNow_0 7 rfl rfl)
theorem dX2_placesNow_10 : decode cX2_placesNow 10 = .ok (.imul, 1) := dk_104 (dk_at dksX2_placesNow_0 10 rfl rfl)
theorem dX2_placesNow_11 : decode cX2_placesNow 11 = .ok (.iconst 0, 1) := dk_3 (dk_at dksX2_placesNow_0 11 rfl rfl)
theorem dX2_placesNow_12 : decode cX2_placesNow 12 = .ok (.iadd, 1) := dk_96 (dk_at dksX2_placesNow_0 12 rfl rfl)
theorem dX2_placesNow_13 : decode cX2_placesNow 13 = .ok (.iaload, 1) := dk_46 (dk_at dksX2_placesNow_0 13 rfl rfl)
theorem dX2_placesNow_14 : decode cX2_placesNow 14 = .ok (.ireturn, 1) := dk_172 (dk_at dksX2_placesNow_0 14 rfl rfl)
abbrev cX2_follows : ByteArray := prog_21_method_25_code
def yX2_follows : MethodName := ⟨RX2, "follows", "(JJ)V"⟩
def dkwX2_follows_2 : List UInt8 := [167, 255, 213, 177]
abbrev dktX2_follows_2 : List UInt8 := dkwX2_follows_2 ++ []
def dkwX2_follows_1 : List UInt8 := [180, 0, 20, 17, 0, 203, 42, 180, 0, 214, 104, 6, 96, 21, 5, 96, 92, 47, 33, 129, 80, 132, 5, 1]
abbrev dktX2_follows_1 : List UInt8 := dkwX2_follows_1 ++ dktX2_follows_2
def dkwX2_follows_0 : List UInt8 := [3, 54, 5, 21, 5, 16, 40, 162, 0, 42, 31, 21, 5, 123, 10, 127, 10, 148, 154, 0, 25, 42]
abbrev dktX2_follows_0 : List UInt8 := dkwX2_follows_0 ++ dktX2_follows_1
theorem dksX2_follows_0 : cX2_follows.data.toList.drop 0 = dktX2_follows_0 := by decide +kernel
theorem dksX2_follows_1 : cX2_follows.data.toList.drop 22 = dktX2_follows_1 := dk_seg dksX2_follows_0 22 rfl rfl
theorem dksX2_follows_2 : cX2_follows.data.toList.drop 46 = dktX2_follows_2 := dk_seg dksX2_follows_1 24 rfl rfl
theorem dX2_follows_0 : decode cX2_follows 0 = .ok (.iconst 0, 1) := dk_3 (dk_at dksX2_follows_0 0 rfl rfl)
theorem dX2_follows_1 : decode cX2_follows 1 = .ok (.istore 5, 2) := dk_54 5 (dk_at dksX2_follows_0 1 rfl rfl)
theorem dX2_follows_3 : decode cX2_follows 3 = .ok (.iload 5, 2) := dk_21 5 (dk_at dksX2_follows_0 3 rfl rfl)
theorem dX2_follows_5 : decode cX2_follows 5 = .ok (.bipush 40, 2) := dk_16 40 (dk_at dksX2_follows_0 5 rfl rfl)
theorem dX2_follows_7 : decode cX2_follows 7 = .ok (.if_icmp .ge 42, 3) := dk_162 0 42 (dk_at dksX2_follows_0 7 rfl rfl)
theorem dX2_follows_10 : decode cX2_follows 10 = .ok (.lload_n 1, 1) := dk_31 (dk_at dksX2_follows_0 10 rfl rfl)
theorem dX2_follows_11 : decode cX2_follows 11 = .ok (.iload 5, 2) := dk_21 5 (dk_at dksX2_follows_0 11 rfl rfl)
theorem dX2_follows_13 : decode cX2_follows 13 = .ok (.lshr, 1) := dk_123 (dk_at dksX2_follows_0 13 rfl rfl)
theorem dX2_follows_14 : decode cX2_follows 14 = .ok (.lconst 1, 1) := dk_10 (dk_at dksX2_follows_0 14 rfl rfl)
theorem dX2_follows_15 : decode cX2_follows 15 = .ok (.land, 1) := dk_127 (dk_at dksX2_follows_0 15 rfl rfl)
theorem dX2_follows_16 : decode cX2_follows 16 = .ok (.lconst 1, 1) := dk_10 (dk_at dksX2_follows_0 16 rfl rfl)
theorem dX2_follows_17 : decode cX2_follows 17 = .ok (.lcmp, 1) := dk_148 (dk_at dksX2_follows_0 17 rfl rfl)
theorem dX2_follows_18 : decode cX2_follows 18 = .ok (.ifCond .ne 25, 3) := dk_154 0 25 (dk_at dksX2_follows_0 18 rfl rfl)
theorem dX2_follows_21 : decode cX2_follows 21 = .ok (.aload_n 0, 1) := dk_42 (dk_at dksX2_follows_0 21 rfl rfl)
theorem dX2_follows_22 : decode cX2_follows 22 = .ok (.getfield 20, 3) := dk_180 0 20 (dk_at dksX2_follows_1 0 rfl rfl)
theorem dX2_follows_25 : decode cX2_follows 25 = .ok (.sipush 203, 3) := dk_17 0 203 (dk_at dksX2_follows_1 3 rfl rfl)
theorem dX2_follows_28 : decode cX2_follows 28 = .ok (.aload_n 0, 1) := dk_42 (dk_at dksX2_follows_1 6 rfl rfl)
theorem dX2_follows_29 : decode cX2_follows 29 = .ok (.getfield 214, 3) := dk_180 0 214 (dk_at dksX2_follows_1 7 rfl rfl)
theorem dX2_follows_32 : decode cX2_follows 32 = .ok (.imul, 1) := dk_104 (dk_at dksX2_follows_1 10 rfl rfl)
theorem dX2_follows_33 : decode cX2_follows 33 = .ok (.iconst 3, 1) := dk_6 (dk_at dksX2_follows_1 11 rfl rfl)
theorem dX2_follows_34 : decode cX2_follows 34 = .ok (.iadd, 1) := dk_96 (dk_at dksX2_follows_1 12 rfl rfl)
theorem dX2_follows_35 : decode cX2_follows 35 = .ok (.iload 5, 2) := dk_21 5 (dk_at dksX2_follows_1 13 rfl rfl)
theorem dX2_follows_37 : decode cX2_follows 37 = .ok (.iadd, 1) := dk_96 (dk_at dksX2_follows_1 15 rfl rfl)
theorem dX2_follows_38 : decode cX2_follows 38 = .ok (.dup2, 1) := dk_92 (dk_at dksX2_follows_1 16 rfl rfl)
theorem dX2_follows_39 : decode cX2_follows 39 = .ok (.laload, 1) := dk_47 (dk_at dksX2_follows_1 17 rfl rfl)
theorem dX2_follows_40 : decode cX2_follows 40 = .ok (.lload_n 3, 1) := dk_33 (dk_at dksX2_follows_1 18 rfl rfl)
theorem dX2_follows_41 : decode cX2_follows 41 = .ok (.lor, 1) := dk_129 (dk_at dksX2_follows_1 19 rfl rfl)
theorem dX2_follows_42 : decode cX2_follows 42 = .ok (.lastore, 1) := dk_80 (dk_at dksX2_follows_1 20 rfl rfl)
theorem dX2_follows_43 : decode cX2_follows 43 = .ok (.iinc 5 1, 3) := dk_132 5 1 (dk_at dksX2_follows_1 21 rfl rfl)
theorem dX2_follows_46 : decode cX2_follows 46 = .ok (.goto (-43), 3) := dk_167 255 213 (dk_at dksX2_follows_2 0 rfl rfl)
theorem dX2_follows_49 : decode cX2_follows 49 = .ok (.return_, 1) := dk_177 (dk_at dksX2_follows_2 3 rfl rfl)
abbrev cX2_least : ByteArray := prog_21_method_5_code
def yX2_least : MethodName := ⟨RX2, "least", "(II)I"⟩
def dkwX2_least_0 : List UInt8 := [26, 27, 162, 0, 7, 26, 167, 0, 4, 27, 172]
abbrev dktX2_least_0 : List UInt8 := dkwX2_least_0 ++ []
theorem dksX2_least_0 : cX2_least.data.toList.drop 0 = dktX2_least_0 := by decide +kernel
theorem dX2_least_0 : decode cX2_least 0 = .ok (.iload_n 0, 1) := dk_26 (dk_at dksX2_least_0 0 rfl rfl)
theorem dX2_least_1 : decode cX2_least 1 = .ok (.iload_n 1, 1) := dk_27 (dk_at dksX2_least_0 1 rfl rfl)
theorem dX2_least_2 : decode cX2_least 2 = .ok (.if_icmp .ge 7, 3) := dk_162 0 7 (dk_at dksX2_least_0 2 rfl rfl)
theorem dX2_least_5 : decode cX2_least 5 = .ok (.iload_n 0, 1) := dk_26 (dk_at dksX2_least_0 5 rfl rfl)
theorem dX2_least_6 : decode cX2_least 6 = .ok (.goto 4, 3) := dk_167 0 4 (dk_at dksX2_least_0 6 rfl rfl)
theorem dX2_least_9 : decode cX2_least 9 = .ok (.iload_n 1, 1) := dk_27 (dk_at dksX2_least_0 9 rfl rfl)
theorem dX2_least_10 : decode cX2_least 10 = .ok (.ireturn, 1) := dk_172 (dk_at dksX2_least_0 10 rfl rfl)
abbrev cX2_chains : ByteArray := prog_21_method_26_code
def yX2_chains : MethodName := ⟨RX2, "chains", "(II)V"⟩
def dkwX2_chains_7 : List UInt8 := [27, 42, 180, 0, 99, 27, 46, 42, 180, 0, 99, 28, 46, 184, 0, 230, 79, 177]
abbrev dktX2_chains_7 : List UInt8 := dkwX2_chains_7 ++ []
def dkwX2_chains_6 : List UInt8 := [180, 0, 96, 27, 42, 180, 0, 96, 27, 46, 42, 180, 0, 96, 28, 46, 184, 0, 230, 79, 42, 180, 0, 99]
abbrev dktX2_chains_6 : List UInt8 := dkwX2_chains_6 ++ dktX2_chains_7
def dkwX2_chains_5 : List UInt8 := [84, 42, 180, 0, 93, 27, 42, 180, 0, 93, 27, 46, 42, 180, 0, 93, 28, 46, 184, 0, 230, 79, 42]
abbrev dktX2_chains_5 : List UInt8 := dkwX2_chains_5 ++ dktX2_chains_6
def dkwX2_chains_4 : List UInt8 := [27, 42, 180, 0, 90, 27, 51, 153, 0, 16, 42, 180, 0, 90, 28, 51, 153, 0, 7, 4, 167, 0, 4, 3]
abbrev dktX2_chains_4 : List UInt8 := dkwX2_chains_4 ++ dktX2_chains_5
def dkwX2_chains_3 : List UInt8 := [180, 0, 90, 28, 51, 153, 0, 12, 42, 180, 0, 87, 27, 47, 167, 0, 4, 9, 129, 80, 42, 180, 0, 90]
abbrev dktX2_chains_3 : List UInt8 := dkwX2_chains_3 ++ dktX2_chains_4
def dkwX2_chains_2 : List UInt8 := [42, 180, 0, 84, 28, 47, 167, 0, 4, 9, 129, 80, 42, 180, 0, 87, 27, 42, 180, 0, 87, 28, 47, 42]
abbrev dktX2_chains_2 : List UInt8 := dkwX2_chains_2 ++ dktX2_chains_3
def dkwX2_chains_1 : List UInt8 := [180, 0, 84, 28, 47, 182, 0, 226, 42, 180, 0, 84, 27, 92, 47, 42, 180, 0, 90, 27, 51, 153, 0, 12]
abbrev dktX2_chains_1 : List UInt8 := dkwX2_chains_1 ++ dktX2_chains_2
def dkwX2_chains_0 : List UInt8 := [42, 180, 0, 102, 27, 51, 154, 0, 10, 42, 28, 27, 182, 0, 222, 177, 42, 42, 180, 0, 87, 27, 47, 42]
abbrev dktX2_chains_0 : List UInt8 := dkwX2_chains_0 ++ dktX2_chains_1
theorem dksX2_chains_0 : cX2_chains.data.toList.drop 0 = dktX2_chains_0 := by decide +kernel
theorem dksX2_chains_1 : cX2_chains.data.toList.drop 24 = dktX2_chains_1 := dk_seg dksX2_chains_0 24 rfl rfl
theorem dksX2_chains_2 : cX2_chains.data.toList.drop 48 = dktX2_chains_2 := dk_seg dksX2_chains_1 24 rfl rfl
theorem dksX2_chains_3 : cX2_chains.data.toList.drop 72 = dktX2_chains_3 := dk_seg dksX2_chains_2 24 rfl rfl
theorem dksX2_chains_4 : cX2_chains.data.toList.drop 96 = dktX2_chains_4 := dk_seg dksX2_chains_3 24 rfl rfl
theorem dksX2_chains_5 : cX2_chains.data.toList.drop 120 = dktX2_chains_5 := dk_seg dksX2_chains_4 24 rfl rfl
theorem dksX2_chains_6 : cX2_chains.data.toList.drop 143 = dktX2_chains_6 := dk_seg dksX2_chains_5 23 rfl rfl
theorem dksX2_chains_7 : cX2_chains.data.toList.drop 167 = dktX2_chains_7 := dk_seg dksX2_chains_6 24 rfl rfl
theorem dX2_chains_0 : decode cX2_chains 0 = .ok (.aload_n 0, 1) := dk_42 (dk_at dksX2_chains_0 0 rfl rfl)
theorem dX2_chains_1 : decode cX2_chains 1 = .ok (.getfield 102, 3) := dk_180 0 102 (dk_at dksX2_chains_0 1 rfl rfl)
theorem dX2_chains_4 : decode cX2_chains 4 = .ok (.iload_n 1, 1) := dk_27 (dk_at dksX2_chains_0 4 rfl rfl)
theorem dX2_chains_5 : decode cX2_chains 5 = .ok (.baload, 1) := dk_51 (dk_at dksX2_chains_0 5 rfl rfl)
theorem dX2_chains_6 : decode cX2_chains 6 = .ok (.ifCond .ne 10, 3) := dk_154 0 10 (dk_at dksX2_chains_0 6 rfl rfl)
theorem dX2_chains_9 : decode cX2_chains 9 = .ok (.aload_n 0, 1) := dk_42 (dk_at dksX2_chains_0 9 rfl rfl)
theorem dX2_chains_10 : decode cX2_chains 10 = .ok (.iload_n 2, 1) := dk_28 (dk_at dksX2_chains_0 10 rfl rfl)
theorem dX2_chains_11 : decode cX2_chains 11 = .ok (.iload_n 1, 1) := dk_27 (dk_at dksX2_chains_0 11 rfl rfl)
theorem dX2_chains_12 : decode cX2_chains 12 = .ok (.invokevirtual 222, 3) := dk_182 0 222 (dk_at dksX2_chains_0 12 rfl rfl)
theorem dX2_chains_15 : decode cX2_chains 15 = .ok (.return_, 1) := dk_177 (dk_at dksX2_chains_0 15 rfl rfl)
theorem dX2_chains_16 : decode cX2_chains 16 = .ok (.aload_n 0, 1) := dk_42 (dk_at dksX2_chains_0 16 rfl rfl)
theorem dX2_chains_17 : decode cX2_chains 17 = .ok (.aload_n 0, 1) := dk_42 (dk_at dksX2_chains_0 17 rfl rfl)
theorem dX2_chains_18 : decode cX2_chains 18 = .ok (.getfield 87, 3) := dk_180 0 87 (dk_at dksX2_chains_0 18 rfl rfl)
theorem dX2_chains_21 : decode cX2_chains 21 = .ok (.iload_n 1, 1) := dk_27 (dk_at dksX2_chains_0 21 rfl rfl)
theorem dX2_chains_22 : decode cX2_chains 22 = .ok (.laload, 1) := dk_47 (dk_at dksX2_chains_0 22 rfl rfl)
theorem dX2_chains_23 : decode cX2_chains 23 = .ok (.aload_n 0, 1) := dk_42 (dk_at dksX2_chains_0 23 rfl rfl)
theorem dX2_chains_24 : decode cX2_chains 24 = .ok (.getfield 84, 3) := dk_180 0 84 (dk_at dksX2_chains_1 0 rfl rfl)
theorem dX2_chains_27 : decode cX2_chains 27 = .ok (.iload_n 2, 1) := dk_28 (dk_at dksX2_chains_1 3 rfl rfl)
theorem dX2_chains_28 : decode cX2_chains 28 = .ok (.laload, 1) := dk_47 (dk_at dksX2_chains_1 4 rfl rfl)
theorem dX2_chains_29 : decode cX2_chains 29 = .ok (.invokevirtual 226, 3) := dk_182 0 226 (dk_at dksX2_chains_1 5 rfl rfl)
theorem dX2_chains_32 : decode cX2_chains 32 = .ok (.aload_n 0, 1) := dk_42 (dk_at dksX2_chains_1 8 rfl rfl)
theorem dX2_chains_33 : decode cX2_chains 33 = .ok (.getfield 84, 3) := dk_180 0 84 (dk_at dksX2_chains_1 9 rfl rfl)
theorem dX2_chains_36 : decode cX2_chains 36 = .ok (.iload_n 1, 1) := dk_27 (dk_at dksX2_chains_1 12 rfl rfl)
theorem dX2_chains_37 : decode cX2_chains 37 = .ok (.dup2, 1) := dk_92 (dk_at dksX2_chains_1 13 rfl rfl)
theorem dX2_chains_38 : decode cX2_chains 38 = .ok (.laload, 1) := dk_47 (dk_at dksX2_chains_1 14 rfl rfl)
theorem dX2_chains_39 : decode cX2_chains 39 = .ok (.aload_n 0, 1) := dk_42 (dk_at dksX2_chains_1 15 rfl rfl)
theorem dX2_chains_40 : decode cX2_chains 40 = .ok (.getfield 90, 3) := dk_180 0 90 (dk_at dksX2_chains_1 16 rfl rfl)
theorem dX2_chains_43 : decode cX2_chains 43 = .ok (.iload_n 1, 1) := dk_27 (dk_at dksX2_chains_1 19 rfl rfl)
theorem dX2_chains_44 : decode cX2_chains 44 = .ok (.baload, 1) := dk_51 (dk_at dksX2_chains_1 20 rfl rfl)
theorem dX2_chains_45 : decode cX2_chains 45 = .ok (.ifCond .eq 12, 3) := dk_153 0 12 (dk_at dksX2_chains_1 21 rfl rfl)
theorem dX2_chains_48 : decode cX2_chains 48 = .ok (.aload_n 0, 1) := dk_42 (dk_at dksX2_chains_2 0 rfl rfl)
theorem dX2_chains_49 : decode cX2_chains 49 = .ok (.getfield 84, 3) := dk_180 0 84 (dk_at dksX2_chains_2 1 rfl rfl)
theorem dX2_chains_52 : decode cX2_chains 52 = .ok (.iload_n 2, 1) := dk_28 (dk_at dksX2_chains_2 4 rfl rfl)
theorem dX2_chains_53 : decode cX2_chains 53 = .ok (.laload, 1) := dk_47 (dk_at dksX2_chains_2 5 rfl rfl)
theorem dX2_chains_54 : decode cX2_chains 54 = .ok (.goto 4, 3) := dk_167 0 4 (dk_at dksX2_chains_2 6 rfl rfl)
theorem dX2_chains_57 : decode cX2_chains 57 = .ok (.lconst 0, 1) := dk_9 (dk_at dksX2_chains_2 9 rfl rfl)
theorem dX2_chains_58 : decode cX2_chains 58 = .ok (.lor, 1) := dk_129 (dk_at dksX2_chains_2 10 rfl rfl)
theorem dX2_chains_59 : decode cX2_chains 59 = .ok (.lastore, 1) := dk_80 (dk_at dksX2_chains_2 11 rfl rfl)
theorem dX2_chains_60 : decode cX2_chains 60 = .ok (.aload_n 0, 1) := dk_42 (dk_at dksX2_chains_2 12 rfl rfl)
theorem dX2_chains_61 : decode cX2_chains 61 = .ok (.getfield 87, 3) := dk_180 0 87 (dk_at dksX2_chains_2 13 rfl rfl)
theorem dX2_chains_64 : decode cX2_chains 64 = .ok (.iload_n 1, 1) := dk_27 (dk_at dksX2_chains_2 16 rfl rfl)
theorem dX2_chains_65 : decode cX2_chains 65 = .ok (.aload_n 0, 1) := dk_42 (dk_at dksX2_chains_2 17 rfl rfl)
theorem dX2_chains_66 : decode cX2_chains 66 = .ok (.getfield 87, 3) := dk_180 0 87 (dk_at dksX2_chains_2 18 rfl rfl)
theorem dX2_chains_69 : decode cX2_chains 69 = .ok (.iload_n 2, 1) := dk_28 (dk_at dksX2_chains_2 21 rfl rfl)
theorem dX2_chains_70 : decode cX2_chains 70 = .ok (.laload, 1) := dk_47 (dk_at dksX2_chains_2 22 rfl rfl)
theorem dX2_chains_71 : decode cX2_chains 71 = .ok (.aload_n 0, 1) := dk_42 (dk_at dksX2_chains_2 23 rfl rfl)
theorem dX2_chains_72 : decode cX2_chains 72 = .ok (.getfield 90, 3) := dk_180 0 90 (dk_at dksX2_chains_3 0 rfl rfl)
theorem dX2_chains_75 : decode cX2_chains 75 = .ok (.iload_n 2, 1) := dk_28 (dk_at dksX2_chains_3 3 rfl rfl)
theorem dX2_chains_76 : decode cX2_chains 76 = .ok (.baload, 1) := dk_51 (dk_at dksX2_chains_3 4 rfl rfl)
theorem dX2_chains_77 : decode cX2_chains 77 = .ok (.ifCond .eq 12, 3) := dk_153 0 12 (dk_at dksX2_chains_3 5 rfl rfl)
theorem dX2_chains_80 : decode cX2_chains 80 = .ok (.aload_n 0, 1) := dk_42 (dk_at dksX2_chains_3 8 rfl rfl)
theorem dX2_chains_81 : decode cX2_chains 81 = .ok (.getfield 87, 3) := dk_180 0 87 (dk_at dksX2_chains_3 9 rfl rfl)
theorem dX2_chains_84 : decode cX2_chains 84 = .ok (.iload_n 1, 1) := dk_27 (dk_at dksX2_chains_3 12 rfl rfl)
theorem dX2_chains_85 : decode cX2_chains 85 = .ok (.laload, 1) := dk_47 (dk_at dksX2_chains_3 13 rfl rfl)
theorem dX2_chains_86 : decode cX2_chains 86 = .ok (.goto 4, 3) := dk_167 0 4 (dk_at dksX2_chains_3 14 rfl rfl)
theorem dX2_chains_89 : decode cX2_chains 89 = .ok (.lconst 0, 1) := dk_9 (dk_at dksX2_chains_3 17 rfl rfl)
theorem dX2_chains_90 : decode cX2_chains 90 = .ok (.lor, 1) := dk_129 (dk_at dksX2_chains_3 18 rfl rfl)
theorem dX2_chains_91 : decode cX2_chains 91 = .ok (.lastore, 1) := dk_80 (dk_at dksX2_chains_3 19 rfl rfl)
theorem dX2_chains_92 : decode cX2_chains 92 = .ok (.aload_n 0, 1) := dk_42 (dk_at dksX2_chains_3 20 rfl rfl)
theorem dX2_chains_93 : decode cX2_chains 93 = .ok (.getfield 90, 3) := dk_180 0 90 (dk_at dksX2_chains_3 21 rfl rfl)
theorem dX2_chains_96 : decode cX2_chains 96 = .ok (.iload_n 1, 1) := dk_27 (dk_at dksX2_chains_4 0 rfl rfl)
theorem dX2_chains_97 : decode cX2_chains 97 = .ok (.aload_n 0, 1) := dk_42 (dk_at dksX2_chains_4 1 rfl rfl)
theorem dX2_chains_98 : decode cX2_chains 98 = .ok (.getfield 90, 3) := dk_180 0 90 (dk_at dksX2_chains_4 2 rfl rfl)
theorem dX2_chains_101 : decode cX2_chains 101 = .ok (.iload_n 1, 1) := dk_27 (dk_at dksX2_chains_4 5 rfl rfl)
theorem dX2_chains_102 : decode cX2_chains 102 = .ok (.baload, 1) := dk_51 (dk_at dksX2_chains_4 6 rfl rfl)
theorem dX2_chains_103 : decode cX2_chains 103 = .ok (.ifCond .eq 16, 3) := dk_153 0 16 (dk_at dksX2_chains_4 7 rfl rfl)
theorem dX2_chains_106 : decode cX2_chains 106 = .ok (.aload_n 0, 1) := dk_42 (dk_at dksX2_chains_4 10 rfl rfl)
theorem dX2_chains_107 : decode cX2_chains 107 = .ok (.getfield 90, 3) := dk_180 0 90 (dk_at dksX2_chains_4 11 rfl rfl)
theorem dX2_chains_110 : decode cX2_chains 110 = .ok (.iload_n 2, 1) := dk_28 (dk_at dksX2_chains_4 14 rfl rfl)
theorem dX2_chains_111 : decode cX2_chains 111 = .ok (.baload, 1) := dk_51 (dk_at dksX2_chains_4 15 rfl rfl)
theorem dX2_chains_112 : decode cX2_chains 112 = .ok (.ifCond .eq 7, 3) := dk_153 0 7 (dk_at dksX2_chains_4 16 rfl rfl)
theorem dX2_chains_115 : decode cX2_chains 115 = .ok (.iconst 1, 1) := dk_4 (dk_at dksX2_chains_4 19 rfl rfl)
theorem dX2_chains_116 : decode cX2_chains 116 = .ok (.goto 4, 3) := dk_167 0 4 (dk_at dksX2_chains_4 20 rfl rfl)
theorem dX2_chains_119 : decode cX2_chains 119 = .ok (.iconst 0, 1) := dk_3 (dk_at dksX2_chains_4 23 rfl rfl)
theorem dX2_chains_120 : decode cX2_chains 120 = .ok (.bastore, 1) := dk_84 (dk_at dksX2_chains_5 0 rfl rfl)
theorem dX2_chains_121 : decode cX2_chains 121 = .ok (.aload_n 0, 1) := dk_42 (dk_at dksX2_chains_5 1 rfl rfl)
theorem dX2_chains_122 : decode cX2_chains 122 = .ok (.getfield 93, 3) := dk_180 0 93 (dk_at dksX2_chains_5 2 rfl rfl)
theorem dX2_chains_125 : decode cX2_chains 125 = .ok (.iload_n 1, 1) := dk_27 (dk_at dksX2_chains_5 5 rfl rfl)
theorem dX2_chains_126 : decode cX2_chains 126 = .ok (.aload_n 0, 1) := dk_42 (dk_at dksX2_chains_5 6 rfl rfl)
theorem dX2_chains_127 : decode cX2_chains 127 = .ok (.getfield 93, 3) := dk_180 0 93 (dk_at dksX2_chains_5 7 rfl rfl)
theorem dX2_chains_130 : decode cX2_chains 130 = .ok (.iload_n 1, 1) := dk_27 (dk_at dksX2_chains_5 10 rfl rfl)
theorem dX2_chains_131 : decode cX2_chains 131 = .ok (.iaload, 1) := dk_46 (dk_at dksX2_chains_5 11 rfl rfl)
theorem dX2_chains_132 : decode cX2_chains 132 = .ok (.aload_n 0, 1) := dk_42 (dk_at dksX2_chains_5 12 rfl rfl)
theorem dX2_chains_133 : decode cX2_chains 133 = .ok (.getfield 93, 3) := dk_180 0 93 (dk_at dksX2_chains_5 13 rfl rfl)
theorem dX2_chains_136 : decode cX2_chains 136 = .ok (.iload_n 2, 1) := dk_28 (dk_at dksX2_chains_5 16 rfl rfl)
theorem dX2_chains_137 : decode cX2_chains 137 = .ok (.iaload, 1) := dk_46 (dk_at dksX2_chains_5 17 rfl rfl)
theorem dX2_chains_138 : decode cX2_chains 138 = .ok (.invokestatic 230, 3) := dk_184 0 230 (dk_at dksX2_chains_5 18 rfl rfl)
theorem dX2_chains_141 : decode cX2_chains 141 = .ok (.iastore, 1) := dk_79 (dk_at dksX2_chains_5 21 rfl rfl)
theorem dX2_chains_142 : decode cX2_chains 142 = .ok (.aload_n 0, 1) := dk_42 (dk_at dksX2_chains_5 22 rfl rfl)
theorem dX2_chains_143 : decode cX2_chains 143 = .ok (.getfield 96, 3) := dk_180 0 96 (dk_at dksX2_chains_6 0 rfl rfl)
theorem dX2_chains_146 : decode cX2_chains 146 = .ok (.iload_n 1, 1) := dk_27 (dk_at dksX2_chains_6 3 rfl rfl)
theorem dX2_chains_147 : decode cX2_chains 147 = .ok (.aload_n 0, 1) := dk_42 (dk_at dksX2_chains_6 4 rfl rfl)
theorem dX2_chains_148 : decode cX2_chains 148 = .ok (.getfield 96, 3) := dk_180 0 96 (dk_at dksX2_chains_6 5 rfl rfl)
theorem dX2_chains_151 : decode cX2_chains 151 = .ok (.iload_n 1, 1) := dk_27 (dk_at dksX2_chains_6 8 rfl rfl)
theorem dX2_chains_152 : decode cX2_chains 152 = .ok (.iaload, 1) := dk_46 (dk_at dksX2_chains_6 9 rfl rfl)
theorem dX2_chains_153 : decode cX2_chains 153 = .ok (.aload_n 0, 1) := dk_42 (dk_at dksX2_chains_6 10 rfl rfl)
theorem dX2_chains_154 : decode cX2_chains 154 = .ok (.getfield 96, 3) := dk_180 0 96 (dk_at dksX2_chains_6 11 rfl rfl)
theorem dX2_chains_157 : decode cX2_chains 157 = .ok (.iload_n 2, 1) := dk_28 (dk_at dksX2_chains_6 14 rfl rfl)
theorem dX2_chains_158 : decode cX2_chains 158 = .ok (.iaload, 1) := dk_46 (dk_at dksX2_chains_6 15 rfl rfl)
theorem dX2_chains_159 : decode cX2_chains 159 = .ok (.invokestatic 230, 3) := dk_184 0 230 (dk_at dksX2_chains_6 16 rfl rfl)
theorem dX2_chains_162 : decode cX2_chains 162 = .ok (.iastore, 1) := dk_79 (dk_at dksX2_chains_6 19 rfl rfl)
theorem dX2_chains_163 : decode cX2_chains 163 = .ok (.aload_n 0, 1) := dk_42 (dk_at dksX2_chains_6 20 rfl rfl)
theorem dX2_chains_164 : decode cX2_chains 164 = .ok (.getfield 99, 3) := dk_180 0 99 (dk_at dksX2_chains_6 21 rfl rfl)
theorem dX2_chains_167 : decode cX2_chains 167 = .ok (.iload_n 1, 1) := dk_27 (dk_at dksX2_chains_7 0 rfl rfl)
theorem dX2_chains_168 : decode cX2_chains 168 = .ok (.aload_n 0, 1) := dk_42 (dk_at dksX2_chains_7 1 rfl rfl)
theorem dX2_chains_169 : decode cX2_chains 169 = .ok (.getfield 99, 3) := dk_180 0 99 (dk_at dksX2_chains_7 2 rfl rfl)
theorem dX2_chains_172 : decode cX2_chains 172 = .ok (.iload_n 1, 1) := dk_27 (dk_at dksX2_chains_7 5 rfl rfl)
theorem dX2_chains_173 : decode cX2_chains 173 = .ok (.iaload, 1) := dk_46 (dk_at dksX2_chains_7 6 rfl rfl)
theorem dX2_chains_174 : decode cX2_chains 174 = .ok (.aload_n 0, 1) := dk_42 (dk_at dksX2_chains_7 7 rfl rfl)
theorem dX2_chains_175 : decode cX2_chains 175 = .ok (.getfield 99, 3) := dk_180 0 99 (dk_at dksX2_chains_7 8 rfl rfl)
theorem dX2_chains_178 : decode cX2_chains 178 = .ok (.iload_n 2, 1) := dk_28 (dk_at dksX2_chains_7 11 rfl rfl)
theorem dX2_chains_179 : decode cX2_chains 179 = .ok (.iaload, 1) := dk_46 (dk_at dksX2_chains_7 12 rfl rfl)
theorem dX2_chains_180 : decode cX2_chains 180 = .ok (.invokestatic 230, 3) := dk_184 0 230 (dk_at dksX2_chains_7 13 rfl rfl)
theorem dX2_chains_183 : decode cX2_chains 183 = .ok (.iastore, 1) := dk_79 (dk_at dksX2_chains_7 16 rfl rfl)
theorem dX2_chains_184 : decode cX2_chains 184 = .ok (.return_, 1) := dk_177 (dk_at dksX2_chains_7 17 rfl rfl)
abbrev cX2_takes : ByteArray := prog_21_method_23_code
def yX2_takes : MethodName := ⟨RX2, "takes", "(II)V"⟩
def dkwX2_takes_3 : List UInt8 := [42, 180, 0, 99, 28, 42, 180, 0, 99, 27, 46, 79, 42, 180, 0, 102, 28, 4, 84, 177]
abbrev dktX2_takes_3 : List UInt8 := dkwX2_takes_3 ++ []
def dkwX2_takes_2 : List UInt8 := [42, 180, 0, 93, 28, 42, 180, 0, 93, 27, 46, 79, 42, 180, 0, 96, 28, 42, 180, 0, 96, 27, 46, 79]
abbrev dktX2_takes_2 : List UInt8 := dkwX2_takes_2 ++ dktX2_takes_3
def dkwX2_takes_1 : List UInt8 := [42, 180, 0, 87, 28, 42, 180, 0, 87, 27, 47, 80, 42, 180, 0, 90, 28, 42, 180, 0, 90, 27, 51, 84]
abbrev dktX2_takes_1 : List UInt8 := dkwX2_takes_1 ++ dktX2_takes_2
def dkwX2_takes_0 : List UInt8 := [42, 180, 0, 81, 28, 42, 180, 0, 81, 27, 46, 79, 42, 180, 0, 84, 28, 42, 180, 0, 84, 27, 47, 80]
abbrev dktX2_takes_0 : List UInt8 := dkwX2_takes_0 ++ dktX2_takes_1
theorem dksX2_takes_0 : cX2_takes.data.toList.drop 0 = dktX2_takes_0 := by decide +kernel
theorem dksX2_takes_1 : cX2_takes.data.toList.drop 24 = dktX2_takes_1 := dk_seg dksX2_takes_0 24 rfl rfl
theorem dksX2_takes_2 : cX2_takes.data.toList.drop 48 = dktX2_takes_2 := dk_seg dksX2_takes_1 24 rfl rfl
theorem dksX2_takes_3 : cX2_takes.data.toList.drop 72 = dktX2_takes_3 := dk_seg dksX2_takes_2 24 rfl rfl
theorem dX2_takes_0 : decode cX2_takes 0 = .ok (.aload_n 0, 1) := dk_42 (dk_at dksX2_takes_0 0 rfl rfl)
theorem dX2_takes_1 : decode cX2_takes 1 = .ok (.getfield 81, 3) := dk_180 0 81 (dk_at dksX2_takes_0 1 rfl rfl)
theorem dX2_takes_4 : decode cX2_takes 4 = .ok (.iload_n 2, 1) := dk_28 (dk_at dksX2_takes_0 4 rfl rfl)
theorem dX2_takes_5 : decode cX2_takes 5 = .ok (.aload_n 0, 1) := dk_42 (dk_at dksX2_takes_0 5 rfl rfl)
theorem dX2_takes_6 : decode cX2_takes 6 = .ok (.getfield 81, 3) := dk_180 0 81 (dk_at dksX2_takes_0 6 rfl rfl)
theorem dX2_takes_9 : decode cX2_takes 9 = .ok (.iload_n 1, 1) := dk_27 (dk_at dksX2_takes_0 9 rfl rfl)
theorem dX2_takes_10 : decode cX2_takes 10 = .ok (.iaload, 1) := dk_46 (dk_at dksX2_takes_0 10 rfl rfl)
theorem dX2_takes_11 : decode cX2_takes 11 = .ok (.iastore, 1) := dk_79 (dk_at dksX2_takes_0 11 rfl rfl)
theorem dX2_takes_12 : decode cX2_takes 12 = .ok (.aload_n 0, 1) := dk_42 (dk_at dksX2_takes_0 12 rfl rfl)
theorem dX2_takes_13 : decode cX2_takes 13 = .ok (.getfield 84, 3) := dk_180 0 84 (dk_at dksX2_takes_0 13 rfl rfl)
theorem dX2_takes_16 : decode cX2_takes 16 = .ok (.iload_n 2, 1) := dk_28 (dk_at dksX2_takes_0 16 rfl rfl)
theorem dX2_takes_17 : decode cX2_takes 17 = .ok (.aload_n 0, 1) := dk_42 (dk_at dksX2_takes_0 17 rfl rfl)
theorem dX2_takes_18 : decode cX2_takes 18 = .ok (.getfield 84, 3) := dk_180 0 84 (dk_at dksX2_takes_0 18 rfl rfl)
theorem dX2_takes_21 : decode cX2_takes 21 = .ok (.iload_n 1, 1) := dk_27 (dk_at dksX2_takes_0 21 rfl rfl)
theorem dX2_takes_22 : decode cX2_takes 22 = .ok (.laload, 1) := dk_47 (dk_at dksX2_takes_0 22 rfl rfl)
theorem dX2_takes_23 : decode cX2_takes 23 = .ok (.lastore, 1) := dk_80 (dk_at dksX2_takes_0 23 rfl rfl)
theorem dX2_takes_24 : decode cX2_takes 24 = .ok (.aload_n 0, 1) := dk_42 (dk_at dksX2_takes_1 0 rfl rfl)
theorem dX2_takes_25 : decode cX2_takes 25 = .ok (.getfield 87, 3) := dk_180 0 87 (dk_at dksX2_takes_1 1 rfl rfl)
theorem dX2_takes_28 : decode cX2_takes 28 = .ok (.iload_n 2, 1) := dk_28 (dk_at dksX2_takes_1 4 rfl rfl)
theorem dX2_takes_29 : decode cX2_takes 29 = .ok (.aload_n 0, 1) := dk_42 (dk_at dksX2_takes_1 5 rfl rfl)
theorem dX2_takes_30 : decode cX2_takes 30 = .ok (.getfield 87, 3) := dk_180 0 87 (dk_at dksX2_takes_1 6 rfl rfl)
theorem dX2_takes_33 : decode cX2_takes 33 = .ok (.iload_n 1, 1) := dk_27 (dk_at dksX2_takes_1 9 rfl rfl)
theorem dX2_takes_34 : decode cX2_takes 34 = .ok (.laload, 1) := dk_47 (dk_at dksX2_takes_1 10 rfl rfl)
theorem dX2_takes_35 : decode cX2_takes 35 = .ok (.lastore, 1) := dk_80 (dk_at dksX2_takes_1 11 rfl rfl)
theorem dX2_takes_36 : decode cX2_takes 36 = .ok (.aload_n 0, 1) := dk_42 (dk_at dksX2_takes_1 12 rfl rfl)
theorem dX2_takes_37 : decode cX2_takes 37 = .ok (.getfield 90, 3) := dk_180 0 90 (dk_at dksX2_takes_1 13 rfl rfl)
theorem dX2_takes_40 : decode cX2_takes 40 = .ok (.iload_n 2, 1) := dk_28 (dk_at dksX2_takes_1 16 rfl rfl)
theorem dX2_takes_41 : decode cX2_takes 41 = .ok (.aload_n 0, 1) := dk_42 (dk_at dksX2_takes_1 17 rfl rfl)
theorem dX2_takes_42 : decode cX2_takes 42 = .ok (.getfield 90, 3) := dk_180 0 90 (dk_at dksX2_takes_1 18 rfl rfl)
theorem dX2_takes_45 : decode cX2_takes 45 = .ok (.iload_n 1, 1) := dk_27 (dk_at dksX2_takes_1 21 rfl rfl)
theorem dX2_takes_46 : decode cX2_takes 46 = .ok (.baload, 1) := dk_51 (dk_at dksX2_takes_1 22 rfl rfl)
theorem dX2_takes_47 : decode cX2_takes 47 = .ok (.bastore, 1) := dk_84 (dk_at dksX2_takes_1 23 rfl rfl)
theorem dX2_takes_48 : decode cX2_takes 48 = .ok (.aload_n 0, 1) := dk_42 (dk_at dksX2_takes_2 0 rfl rfl)
theorem dX2_takes_49 : decode cX2_takes 49 = .ok (.getfield 93, 3) := dk_180 0 93 (dk_at dksX2_takes_2 1 rfl rfl)
theorem dX2_takes_52 : decode cX2_takes 52 = .ok (.iload_n 2, 1) := dk_28 (dk_at dksX2_takes_2 4 rfl rfl)
theorem dX2_takes_53 : decode cX2_takes 53 = .ok (.aload_n 0, 1) := dk_42 (dk_at dksX2_takes_2 5 rfl rfl)
theorem dX2_takes_54 : decode cX2_takes 54 = .ok (.getfield 93, 3) := dk_180 0 93 (dk_at dksX2_takes_2 6 rfl rfl)
theorem dX2_takes_57 : decode cX2_takes 57 = .ok (.iload_n 1, 1) := dk_27 (dk_at dksX2_takes_2 9 rfl rfl)
theorem dX2_takes_58 : decode cX2_takes 58 = .ok (.iaload, 1) := dk_46 (dk_at dksX2_takes_2 10 rfl rfl)
theorem dX2_takes_59 : decode cX2_takes 59 = .ok (.iastore, 1) := dk_79 (dk_at dksX2_takes_2 11 rfl rfl)
theorem dX2_takes_60 : decode cX2_takes 60 = .ok (.aload_n 0, 1) := dk_42 (dk_at dksX2_takes_2 12 rfl rfl)
theorem dX2_takes_61 : decode cX2_takes 61 = .ok (.getfield 96, 3) := dk_180 0 96 (dk_at dksX2_takes_2 13 rfl rfl)
theorem dX2_takes_64 : decode cX2_takes 64 = .ok (.iload_n 2, 1) := dk_28 (dk_at dksX2_takes_2 16 rfl rfl)
theorem dX2_takes_65 : decode cX2_takes 65 = .ok (.aload_n 0, 1) := dk_42 (dk_at dksX2_takes_2 17 rfl rfl)
theorem dX2_takes_66 : decode cX2_takes 66 = .ok (.getfield 96, 3) := dk_180 0 96 (dk_at dksX2_takes_2 18 rfl rfl)
theorem dX2_takes_69 : decode cX2_takes 69 = .ok (.iload_n 1, 1) := dk_27 (dk_at dksX2_takes_2 21 rfl rfl)
theorem dX2_takes_70 : decode cX2_takes 70 = .ok (.iaload, 1) := dk_46 (dk_at dksX2_takes_2 22 rfl rfl)
theorem dX2_takes_71 : decode cX2_takes 71 = .ok (.iastore, 1) := dk_79 (dk_at dksX2_takes_2 23 rfl rfl)
theorem dX2_takes_72 : decode cX2_takes 72 = .ok (.aload_n 0, 1) := dk_42 (dk_at dksX2_takes_3 0 rfl rfl)
theorem dX2_takes_73 : decode cX2_takes 73 = .ok (.getfield 99, 3) := dk_180 0 99 (dk_at dksX2_takes_3 1 rfl rfl)
theorem dX2_takes_76 : decode cX2_takes 76 = .ok (.iload_n 2, 1) := dk_28 (dk_at dksX2_takes_3 4 rfl rfl)
theorem dX2_takes_77 : decode cX2_takes 77 = .ok (.aload_n 0, 1) := dk_42 (dk_at dksX2_takes_3 5 rfl rfl)
theorem dX2_takes_78 : decode cX2_takes 78 = .ok (.getfield 99, 3) := dk_180 0 99 (dk_at dksX2_takes_3 6 rfl rfl)
theorem dX2_takes_81 : decode cX2_takes 81 = .ok (.iload_n 1, 1) := dk_27 (dk_at dksX2_takes_3 9 rfl rfl)
theorem dX2_takes_82 : decode cX2_takes 82 = .ok (.iaload, 1) := dk_46 (dk_at dksX2_takes_3 10 rfl rfl)
theorem dX2_takes_83 : decode cX2_takes 83 = .ok (.iastore, 1) := dk_79 (dk_at dksX2_takes_3 11 rfl rfl)
theorem dX2_takes_84 : decode cX2_takes 84 = .ok (.aload_n 0, 1) := dk_42 (dk_at dksX2_takes_3 12 rfl rfl)
theorem dX2_takes_85 : decode cX2_takes 85 = .ok (.getfield 102, 3) := dk_180 0 102 (dk_at dksX2_takes_3 13 rfl rfl)
theorem dX2_takes_88 : decode cX2_takes 88 = .ok (.iload_n 2, 1) := dk_28 (dk_at dksX2_takes_3 16 rfl rfl)
theorem dX2_takes_89 : decode cX2_takes 89 = .ok (.iconst 1, 1) := dk_4 (dk_at dksX2_takes_3 17 rfl rfl)
theorem dX2_takes_90 : decode cX2_takes 90 = .ok (.bastore, 1) := dk_84 (dk_at dksX2_takes_3 18 rfl rfl)
theorem dX2_takes_91 : decode cX2_takes 91 = .ok (.return_, 1) := dk_177 (dk_at dksX2_takes_3 19 rfl rfl)
abbrev cX2_sum : ByteArray := prog_21_method_24_code
def yX2_sum : MethodName := ⟨RX2, "sum", "(II)I"⟩
def dkwX2_sum_0 : List UInt8 := [26, 27, 96, 18, 217, 184, 0, 218, 172]
abbrev dktX2_sum_0 : List UInt8 := dkwX2_sum_0 ++ []
theorem dksX2_sum_0 : cX2_sum.data.toList.drop 0 = dktX2_sum_0 := by decide +kernel
theorem dX2_sum_0 : decode cX2_sum 0 = .ok (.iload_n 0, 1) := dk_26 (dk_at dksX2_sum_0 0 rfl rfl)
theorem dX2_sum_1 : decode cX2_sum 1 = .ok (.iload_n 1, 1) := dk_27 (dk_at dksX2_sum_0 1 rfl rfl)
theorem dX2_sum_2 : decode cX2_sum 2 = .ok (.iadd, 1) := dk_96 (dk_at dksX2_sum_0 2 rfl rfl)
theorem dX2_sum_3 : decode cX2_sum 3 = .ok (.ldc 217, 2) := dk_18 217 (dk_at dksX2_sum_0 3 rfl rfl)
theorem dX2_sum_5 : decode cX2_sum 5 = .ok (.invokestatic 218, 3) := dk_184 0 218 (dk_at dksX2_sum_0 5 rfl rfl)
theorem dX2_sum_8 : decode cX2_sum 8 = .ok (.ireturn, 1) := dk_172 (dk_at dksX2_sum_0 8 rfl rfl)
abbrev cX2_chooses : ByteArray := prog_21_method_27_code
def yX2_chooses : MethodName := ⟨RX2, "chooses", "(II)V"⟩
def dkwX2_chooses_5 : List UInt8 := [79, 42, 180, 0, 99, 27, 42, 180, 0, 99, 27, 46, 42, 180, 0, 99, 28, 46, 184, 0, 233, 79, 177]
abbrev dktX2_chooses_5 : List UInt8 := dkwX2_chooses_5 ++ []
def dkwX2_chooses_4 : List UInt8 := [184, 0, 230, 79, 42, 180, 0, 96, 27, 42, 180, 0, 96, 27, 46, 42, 180, 0, 96, 28, 46, 184, 0, 218]
abbrev dktX2_chooses_4 : List UInt8 := dkwX2_chooses_4 ++ dktX2_chooses_5
def dkwX2_chooses_3 : List UInt8 := [167, 0, 4, 3, 84, 42, 180, 0, 93, 27, 42, 180, 0, 93, 27, 46, 42, 180, 0, 93, 28, 46]
abbrev dktX2_chooses_3 : List UInt8 := dkwX2_chooses_3 ++ dktX2_chooses_4
def dkwX2_chooses_2 : List UInt8 := [180, 0, 90, 27, 42, 180, 0, 90, 27, 51, 154, 0, 12, 42, 180, 0, 90, 28, 51, 153, 0, 7, 4]
abbrev dktX2_chooses_2 : List UInt8 := dkwX2_chooses_2 ++ dktX2_chooses_3
def dkwX2_chooses_1 : List UInt8 := [180, 0, 84, 28, 47, 129, 80, 42, 180, 0, 87, 27, 92, 47, 42, 180, 0, 87, 28, 47, 129, 80, 42]
abbrev dktX2_chooses_1 : List UInt8 := dkwX2_chooses_1 ++ dktX2_chooses_2
def dkwX2_chooses_0 : List UInt8 := [42, 180, 0, 102, 27, 51, 154, 0, 10, 42, 28, 27, 182, 0, 222, 177, 42, 180, 0, 84, 27, 92, 47, 42]
abbrev dktX2_chooses_0 : List UInt8 := dkwX2_chooses_0 ++ dktX2_chooses_1
theorem dksX2_chooses_0 : cX2_chooses.data.toList.drop 0 = dktX2_chooses_0 := by decide +kernel
theorem dksX2_chooses_1 : cX2_chooses.data.toList.drop 24 = dktX2_chooses_1 := dk_seg dksX2_chooses_0 24 rfl rfl
theorem dksX2_chooses_2 : cX2_chooses.data.toList.drop 47 = dktX2_chooses_2 := dk_seg dksX2_chooses_1 23 rfl rfl
theorem dksX2_chooses_3 : cX2_chooses.data.toList.drop 70 = dktX2_chooses_3 := dk_seg dksX2_chooses_2 23 rfl rfl
theorem dksX2_chooses_4 : cX2_chooses.data.toList.drop 92 = dktX2_chooses_4 := dk_seg dksX2_chooses_3 22 rfl rfl
theorem dksX2_chooses_5 : cX2_chooses.data.toList.drop 116 = dktX2_chooses_5 := dk_seg dksX2_chooses_4 24 rfl rfl
theorem dX2_chooses_0 : decode cX2_chooses 0 = .ok (.aload_n 0, 1) := dk_42 (dk_at dksX2_chooses_0 0 rfl rfl)
theorem dX2_chooses_1 : decode cX2_chooses 1 = .ok (.getfield 102, 3) := dk_180 0 102 (dk_at dksX2_chooses_0 1 rfl rfl)
theorem dX2_chooses_4 : decode cX2_chooses 4 = .ok (.iload_n 1, 1) := dk_27 (dk_at dksX2_chooses_0 4 rfl rfl)
theorem dX2_chooses_5 : decode cX2_chooses 5 = .ok (.baload, 1) := dk_51 (dk_at dksX2_chooses_0 5 rfl rfl)
theorem dX2_chooses_6 : decode cX2_chooses 6 = .ok (.ifCond .ne 10, 3) := dk_154 0 10 (dk_at dksX2_chooses_0 6 rfl rfl)
theorem dX2_chooses_9 : decode cX2_chooses 9 = .ok (.aload_n 0, 1) := dk_42 (dk_at dksX2_chooses_0 9 rfl rfl)
theorem dX2_chooses_10 : decode cX2_chooses 10 = .ok (.iload_n 2, 1) := dk_28 (dk_at dksX2_chooses_0 10 rfl rfl)
theorem dX2_chooses_11 : decode cX2_chooses 11 = .ok (.iload_n 1, 1) := dk_27 (dk_at dksX2_chooses_0 11 rfl rfl)
theorem dX2_chooses_12 : decode cX2_chooses 12 = .ok (.invokevirtual 222, 3) := dk_182 0 222 (dk_at dksX2_chooses_0 12 rfl rfl)
theorem dX2_chooses_15 : decode cX2_chooses 15 = .ok (.return_, 1) := dk_177 (dk_at dksX2_chooses_0 15 rfl rfl)
theorem dX2_chooses_16 : decode cX2_chooses 16 = .ok (.aload_n 0, 1) := dk_42 (dk_at dksX2_chooses_0 16 rfl rfl)
theorem dX2_chooses_17 : decode cX2_chooses 17 = .ok (.getfield 84, 3) := dk_180 0 84 (dk_at dksX2_chooses_0 17 rfl rfl)
theorem dX2_chooses_20 : decode cX2_chooses 20 = .ok (.iload_n 1, 1) := dk_27 (dk_at dksX2_chooses_0 20 rfl rfl)
theorem dX2_chooses_21 : decode cX2_chooses 21 = .ok (.dup2, 1) := dk_92 (dk_at dksX2_chooses_0 21 rfl rfl)
theorem dX2_chooses_22 : decode cX2_chooses 22 = .ok (.laload, 1) := dk_47 (dk_at dksX2_chooses_0 22 rfl rfl)
theorem dX2_chooses_23 : decode cX2_chooses 23 = .ok (.aload_n 0, 1) := dk_42 (dk_at dksX2_chooses_0 23 rfl rfl)
theorem dX2_chooses_24 : decode cX2_chooses 24 = .ok (.getfield 84, 3) := dk_180 0 84 (dk_at dksX2_chooses_1 0 rfl rfl)
theorem dX2_chooses_27 : decode cX2_chooses 27 = .ok (.iload_n 2, 1) := dk_28 (dk_at dksX2_chooses_1 3 rfl rfl)
theorem dX2_chooses_28 : decode cX2_chooses 28 = .ok (.laload, 1) := dk_47 (dk_at dksX2_chooses_1 4 rfl rfl)
theorem dX2_chooses_29 : decode cX2_chooses 29 = .ok (.lor, 1) := dk_129 (dk_at dksX2_chooses_1 5 rfl rfl)
theorem dX2_chooses_30 : decode cX2_chooses 30 = .ok (.lastore, 1) := dk_80 (dk_at dksX2_chooses_1 6 rfl rfl)
theorem dX2_chooses_31 : decode cX2_chooses 31 = .ok (.aload_n 0, 1) := dk_42 (dk_at dksX2_chooses_1 7 rfl rfl)
theorem dX2_chooses_32 : decode cX2_chooses 32 = .ok (.getfield 87, 3) := dk_180 0 87 (dk_at dksX2_chooses_1 8 rfl rfl)
theorem dX2_chooses_35 : decode cX2_chooses 35 = .ok (.iload_n 1, 1) := dk_27 (dk_at dksX2_chooses_1 11 rfl rfl)
theorem dX2_chooses_36 : decode cX2_chooses 36 = .ok (.dup2, 1) := dk_92 (dk_at dksX2_chooses_1 12 rfl rfl)
theorem dX2_chooses_37 : decode cX2_chooses 37 = .ok (.laload, 1) := dk_47 (dk_at dksX2_chooses_1 13 rfl rfl)
theorem dX2_chooses_38 : decode cX2_chooses 38 = .ok (.aload_n 0, 1) := dk_42 (dk_at dksX2_chooses_1 14 rfl rfl)
theorem dX2_chooses_39 : decode cX2_chooses 39 = .ok (.getfield 87, 3) := dk_180 0 87 (dk_at dksX2_chooses_1 15 rfl rfl)
theorem dX2_chooses_42 : decode cX2_chooses 42 = .ok (.iload_n 2, 1) := dk_28 (dk_at dksX2_chooses_1 18 rfl rfl)
theorem dX2_chooses_43 : decode cX2_chooses 43 = .ok (.laload, 1) := dk_47 (dk_at dksX2_chooses_1 19 rfl rfl)
theorem dX2_chooses_44 : decode cX2_chooses 44 = .ok (.lor, 1) := dk_129 (dk_at dksX2_chooses_1 20 rfl rfl)
theorem dX2_chooses_45 : decode cX2_chooses 45 = .ok (.lastore, 1) := dk_80 (dk_at dksX2_chooses_1 21 rfl rfl)
theorem dX2_chooses_46 : decode cX2_chooses 46 = .ok (.aload_n 0, 1) := dk_42 (dk_at dksX2_chooses_1 22 rfl rfl)
theorem dX2_chooses_47 : decode cX2_chooses 47 = .ok (.getfield 90, 3) := dk_180 0 90 (dk_at dksX2_chooses_2 0 rfl rfl)
theorem dX2_chooses_50 : decode cX2_chooses 50 = .ok (.iload_n 1, 1) := dk_27 (dk_at dksX2_chooses_2 3 rfl rfl)
theorem dX2_chooses_51 : decode cX2_chooses 51 = .ok (.aload_n 0, 1) := dk_42 (dk_at dksX2_chooses_2 4 rfl rfl)
theorem dX2_chooses_52 : decode cX2_chooses 52 = .ok (.getfield 90, 3) := dk_180 0 90 (dk_at dksX2_chooses_2 5 rfl rfl)
theorem dX2_chooses_55 : decode cX2_chooses 55 = .ok (.iload_n 1, 1) := dk_27 (dk_at dksX2_chooses_2 8 rfl rfl)
theorem dX2_chooses_56 : decode cX2_chooses 56 = .ok (.baload, 1) := dk_51 (dk_at dksX2_chooses_2 9 rfl rfl)
theorem dX2_chooses_57 : decode cX2_chooses 57 = .ok (.ifCond .ne 12, 3) := dk_154 0 12 (dk_at dksX2_chooses_2 10 rfl rfl)
theorem dX2_chooses_60 : decode cX2_chooses 60 = .ok (.aload_n 0, 1) := dk_42 (dk_at dksX2_chooses_2 13 rfl rfl)
theorem dX2_chooses_61 : decode cX2_chooses 61 = .ok (.getfield 90, 3) := dk_180 0 90 (dk_at dksX2_chooses_2 14 rfl rfl)
theorem dX2_chooses_64 : decode cX2_chooses 64 = .ok (.iload_n 2, 1) := dk_28 (dk_at dksX2_chooses_2 17 rfl rfl)
theorem dX2_chooses_65 : decode cX2_chooses 65 = .ok (.baload, 1) := dk_51 (dk_at dksX2_chooses_2 18 rfl rfl)
theorem dX2_chooses_66 : decode cX2_chooses 66 = .ok (.ifCond .eq 7, 3) := dk_153 0 7 (dk_at dksX2_chooses_2 19 rfl rfl)
theorem dX2_chooses_69 : decode cX2_chooses 69 = .ok (.iconst 1, 1) := dk_4 (dk_at dksX2_chooses_2 22 rfl rfl)
theorem dX2_chooses_70 : decode cX2_chooses 70 = .ok (.goto 4, 3) := dk_167 0 4 (dk_at dksX2_chooses_3 0 rfl rfl)
theorem dX2_chooses_73 : decode cX2_chooses 73 = .ok (.iconst 0, 1) := dk_3 (dk_at dksX2_chooses_3 3 rfl rfl)
theorem dX2_chooses_74 : decode cX2_chooses 74 = .ok (.bastore, 1) := dk_84 (dk_at dksX2_chooses_3 4 rfl rfl)
theorem dX2_chooses_75 : decode cX2_chooses 75 = .ok (.aload_n 0, 1) := dk_42 (dk_at dksX2_chooses_3 5 rfl rfl)
theorem dX2_chooses_76 : decode cX2_chooses 76 = .ok (.getfield 93, 3) := dk_180 0 93 (dk_at dksX2_chooses_3 6 rfl rfl)
theorem dX2_chooses_79 : decode cX2_chooses 79 = .ok (.iload_n 1, 1) := dk_27 (dk_at dksX2_chooses_3 9 rfl rfl)
theorem dX2_chooses_80 : decode cX2_chooses 80 = .ok (.aload_n 0, 1) := dk_42 (dk_at dksX2_chooses_3 10 rfl rfl)
theorem dX2_chooses_81 : decode cX2_chooses 81 = .ok (.getfield 93, 3) := dk_180 0 93 (dk_at dksX2_chooses_3 11 rfl rfl)
theorem dX2_chooses_84 : decode cX2_chooses 84 = .ok (.iload_n 1, 1) := dk_27 (dk_at dksX2_chooses_3 14 rfl rfl)
theorem dX2_chooses_85 : decode cX2_chooses 85 = .ok (.iaload, 1) := dk_46 (dk_at dksX2_chooses_3 15 rfl rfl)
theorem dX2_chooses_86 : decode cX2_chooses 86 = .ok (.aload_n 0, 1) := dk_42 (dk_at dksX2_chooses_3 16 rfl rfl)
theorem dX2_chooses_87 : decode cX2_chooses 87 = .ok (.getfield 93, 3) := dk_180 0 93 (dk_at dksX2_chooses_3 17 rfl rfl)
theorem dX2_chooses_90 : decode cX2_chooses 90 = .ok (.iload_n 2, 1) := dk_28 (dk_at dksX2_chooses_3 20 rfl rfl)
theorem dX2_chooses_91 : decode cX2_chooses 91 = .ok (.iaload, 1) := dk_46 (dk_at dksX2_chooses_3 21 rfl rfl)
theorem dX2_chooses_92 : decode cX2_chooses 92 = .ok (.invokestatic 230, 3) := dk_184 0 230 (dk_at dksX2_chooses_4 0 rfl rfl)
theorem dX2_chooses_95 : decode cX2_chooses 95 = .ok (.iastore, 1) := dk_79 (dk_at dksX2_chooses_4 3 rfl rfl)
theorem dX2_chooses_96 : decode cX2_chooses 96 = .ok (.aload_n 0, 1) := dk_42 (dk_at dksX2_chooses_4 4 rfl rfl)
theorem dX2_chooses_97 : decode cX2_chooses 97 = .ok (.getfield 96, 3) := dk_180 0 96 (dk_at dksX2_chooses_4 5 rfl rfl)
theorem dX2_chooses_100 : decode cX2_chooses 100 = .ok (.iload_n 1, 1) := dk_27 (dk_at dksX2_chooses_4 8 rfl rfl)
theorem dX2_chooses_101 : decode cX2_chooses 101 = .ok (.aload_n 0, 1) := dk_42 (dk_at dksX2_chooses_4 9 rfl rfl)
theorem dX2_chooses_102 : decode cX2_chooses 102 = .ok (.getfield 96, 3) := dk_180 0 96 (dk_at dksX2_chooses_4 10 rfl rfl)
theorem dX2_chooses_105 : decode cX2_chooses 105 = .ok (.iload_n 1, 1) := dk_27 (dk_at dksX2_chooses_4 13 rfl rfl)
theorem dX2_chooses_106 : decode cX2_chooses 106 = .ok (.iaload, 1) := dk_46 (dk_at dksX2_chooses_4 14 rfl rfl)
theorem dX2_chooses_107 : decode cX2_chooses 107 = .ok (.aload_n 0, 1) := dk_42 (dk_at dksX2_chooses_4 15 rfl rfl)
theorem dX2_chooses_108 : decode cX2_chooses 108 = .ok (.getfield 96, 3) := dk_180 0 96 (dk_at dksX2_chooses_4 16 rfl rfl)
theorem dX2_chooses_111 : decode cX2_chooses 111 = .ok (.iload_n 2, 1) := dk_28 (dk_at dksX2_chooses_4 19 rfl rfl)
theorem dX2_chooses_112 : decode cX2_chooses 112 = .ok (.iaload, 1) := dk_46 (dk_at dksX2_chooses_4 20 rfl rfl)
theorem dX2_chooses_113 : decode cX2_chooses 113 = .ok (.invokestatic 218, 3) := dk_184 0 218 (dk_at dksX2_chooses_4 21 rfl rfl)
theorem dX2_chooses_116 : decode cX2_chooses 116 = .ok (.iastore, 1) := dk_79 (dk_at dksX2_chooses_5 0 rfl rfl)
theorem dX2_chooses_117 : decode cX2_chooses 117 = .ok (.aload_n 0, 1) := dk_42 (dk_at dksX2_chooses_5 1 rfl rfl)
theorem dX2_chooses_118 : decode cX2_chooses 118 = .ok (.getfield 99, 3) := dk_180 0 99 (dk_at dksX2_chooses_5 2 rfl rfl)
theorem dX2_chooses_121 : decode cX2_chooses 121 = .ok (.iload_n 1, 1) := dk_27 (dk_at dksX2_chooses_5 5 rfl rfl)
theorem dX2_chooses_122 : decode cX2_chooses 122 = .ok (.aload_n 0, 1) := dk_42 (dk_at dksX2_chooses_5 6 rfl rfl)
theorem dX2_chooses_123 : decode cX2_chooses 123 = .ok (.getfield 99, 3) := dk_180 0 99 (dk_at dksX2_chooses_5 7 rfl rfl)
theorem dX2_chooses_126 : decode cX2_chooses 126 = .ok (.iload_n 1, 1) := dk_27 (dk_at dksX2_chooses_5 10 rfl rfl)
theorem dX2_chooses_127 : decode cX2_chooses 127 = .ok (.iaload, 1) := dk_46 (dk_at dksX2_chooses_5 11 rfl rfl)
theorem dX2_chooses_128 : decode cX2_chooses 128 = .ok (.aload_n 0, 1) := dk_42 (dk_at dksX2_chooses_5 12 rfl rfl)
theorem dX2_chooses_129 : decode cX2_chooses 129 = .ok (.getfield 99, 3) := dk_180 0 99 (dk_at dksX2_chooses_5 13 rfl rfl)
theorem dX2_chooses_132 : decode cX2_chooses 132 = .ok (.iload_n 2, 1) := dk_28 (dk_at dksX2_chooses_5 16 rfl rfl)
theorem dX2_chooses_133 : decode cX2_chooses 133 = .ok (.iaload, 1) := dk_46 (dk_at dksX2_chooses_5 17 rfl rfl)
theorem dX2_chooses_134 : decode cX2_chooses 134 = .ok (.invokestatic 233, 3) := dk_184 0 233 (dk_at dksX2_chooses_5 18 rfl rfl)
theorem dX2_chooses_137 : decode cX2_chooses 137 = .ok (.iastore, 1) := dk_79 (dk_at dksX2_chooses_5 21 rfl rfl)
theorem dX2_chooses_138 : decode cX2_chooses 138 = .ok (.return_, 1) := dk_177 (dk_at dksX2_chooses_5 22 rfl rfl)
abbrev cX2_ends : ByteArray := prog_21_method_36_code
def yX2_ends : MethodName := ⟨RX2, "ends", "(I)V"⟩
def dkwX2_ends_8 : List UInt8 := [132, 5, 1, 167, 255, 154, 42, 180, 0, 20, 28, 5, 96, 33, 80, 177]
abbrev dktX2_ends_8 : List UInt8 := dkwX2_ends_8 ++ []
def dkwX2_ends_7 : List UInt8 := [54, 7, 33, 21, 7, 153, 0, 10, 10, 21, 6, 121, 167, 0, 4, 9, 129, 66, 132, 6, 1, 167, 255, 177]
abbrev dktX2_ends_7 : List UInt8 := dkwX2_ends_7 ++ dktX2_ends_8
def dkwX2_ends_6 : List UInt8 := [42, 180, 0, 20, 28, 6, 96, 21, 6, 96, 47, 33, 127, 9, 148, 153, 0, 7, 4, 167, 0, 4, 3]
abbrev dktX2_ends_6 : List UInt8 := dkwX2_ends_6 ++ dktX2_ends_7
def dkwX2_ends_5 : List UInt8 := [21, 6, 182, 1, 25, 153, 0, 41, 42, 180, 0, 87, 4, 47, 21, 6, 123, 10, 127, 10, 148, 153, 0, 21]
abbrev dktX2_ends_5 : List UInt8 := dkwX2_ends_5 ++ dktX2_ends_6
def dkwX2_ends_4 : List UInt8 := [162, 0, 101, 42, 180, 0, 236, 154, 0, 94, 3, 54, 6, 21, 6, 42, 182, 0, 240, 162, 0, 76, 42, 27]
abbrev dktX2_ends_4 : List UInt8 := dkwX2_ends_4 ++ dktX2_ends_5
def dkwX2_ends_3 : List UInt8 := [16, 45, 27, 104, 7, 96, 42, 180, 0, 99, 4, 46, 79, 9, 66, 3, 54, 5, 21, 5, 16, 40]
abbrev dktX2_ends_3 : List UInt8 := dkwX2_ends_3 ++ dktX2_ends_4
def dkwX2_ends_2 : List UInt8 := [4, 46, 79, 42, 180, 0, 13, 16, 45, 27, 104, 6, 96, 42, 180, 0, 96, 4, 46, 79, 42, 180, 0, 13]
abbrev dktX2_ends_2 : List UInt8 := dkwX2_ends_2 ++ dktX2_ends_3
def dkwX2_ends_1 : List UInt8 := [28, 4, 96, 42, 180, 0, 87, 4, 47, 80, 42, 180, 0, 13, 16, 45, 27, 104, 5, 96, 42, 180, 0, 93]
abbrev dktX2_ends_1 : List UInt8 := dkwX2_ends_1 ++ dktX2_ends_2
def dkwX2_ends_0 : List UInt8 := [17, 0, 203, 27, 104, 61, 42, 180, 0, 20, 28, 3, 96, 42, 180, 0, 84, 4, 47, 80, 42, 180, 0, 20]
abbrev dktX2_ends_0 : List UInt8 := dkwX2_ends_0 ++ dktX2_ends_1
theorem dksX2_ends_0 : cX2_ends.data.toList.drop 0 = dktX2_ends_0 := by decide +kernel
theorem dksX2_ends_1 : cX2_ends.data.toList.drop 24 = dktX2_ends_1 := dk_seg dksX2_ends_0 24 rfl rfl
theorem dksX2_ends_2 : cX2_ends.data.toList.drop 48 = dktX2_ends_2 := dk_seg dksX2_ends_1 24 rfl rfl
theorem dksX2_ends_3 : cX2_ends.data.toList.drop 72 = dktX2_ends_3 := dk_seg dksX2_ends_2 24 rfl rfl
theorem dksX2_ends_4 : cX2_ends.data.toList.drop 94 = dktX2_ends_4 := dk_seg dksX2_ends_3 22 rfl rfl
theorem dksX2_ends_5 : cX2_ends.data.toList.drop 118 = dktX2_ends_5 := dk_seg dksX2_ends_4 24 rfl rfl
theorem dksX2_ends_6 : cX2_ends.data.toList.drop 142 = dktX2_ends_6 := dk_seg dksX2_ends_5 24 rfl rfl
theorem dksX2_ends_7 : cX2_ends.data.toList.drop 165 = dktX2_ends_7 := dk_seg dksX2_ends_6 23 rfl rfl
theorem dksX2_ends_8 : cX2_ends.data.toList.drop 189 = dktX2_ends_8 := dk_seg dksX2_ends_7 24 rfl rfl
theorem dX2_ends_0 : decode cX2_ends 0 = .ok (.sipush 203, 3) := dk_17 0 203 (dk_at dksX2_ends_0 0 rfl rfl)
theorem dX2_ends_3 : decode cX2_ends 3 = .ok (.iload_n 1, 1) := dk_27 (dk_at dksX2_ends_0 3 rfl rfl)
theorem dX2_ends_4 : decode cX2_ends 4 = .ok (.imul, 1) := dk_104 (dk_at dksX2_ends_0 4 rfl rfl)
theorem dX2_ends_5 : decode cX2_ends 5 = .ok (.istore_n 2, 1) := dk_61 (dk_at dksX2_ends_0 5 rfl rfl)
theorem dX2_ends_6 : decode cX2_ends 6 = .ok (.aload_n 0, 1) := dk_42 (dk_at dksX2_ends_0 6 rfl rfl)
theorem dX2_ends_7 : decode cX2_ends 7 = .ok (.getfield 20, 3) := dk_180 0 20 (dk_at dksX2_ends_0 7 rfl rfl)
theorem dX2_ends_10 : decode cX2_ends 10 = .ok (.iload_n 2, 1) := dk_28 (dk_at dksX2_ends_0 10 rfl rfl)
theorem dX2_ends_11 : decode cX2_ends 11 = .ok (.iconst 0, 1) := dk_3 (dk_at dksX2_ends_0 11 rfl rfl)
theorem dX2_ends_12 : decode cX2_ends 12 = .ok (.iadd, 1) := dk_96 (dk_at dksX2_ends_0 12 rfl rfl)
theorem dX2_ends_13 : decode cX2_ends 13 = .ok (.aload_n 0, 1) := dk_42 (dk_at dksX2_ends_0 13 rfl rfl)
theorem dX2_ends_14 : decode cX2_ends 14 = .ok (.getfield 84, 3) := dk_180 0 84 (dk_at dksX2_ends_0 14 rfl rfl)
theorem dX2_ends_17 : decode cX2_ends 17 = .ok (.iconst 1, 1) := dk_4 (dk_at dksX2_ends_0 17 rfl rfl)
theorem dX2_ends_18 : decode cX2_ends 18 = .ok (.laload, 1) := dk_47 (dk_at dksX2_ends_0 18 rfl rfl)
theorem dX2_ends_19 : decode cX2_ends 19 = .ok (.lastore, 1) := dk_80 (dk_at dksX2_ends_0 19 rfl rfl)
theorem dX2_ends_20 : decode cX2_ends 20 = .ok (.aload_n 0, 1) := dk_42 (dk_at dksX2_ends_0 20 rfl rfl)
theorem dX2_ends_21 : decode cX2_ends 21 = .ok (.getfield 20, 3) := dk_180 0 20 (dk_at dksX2_ends_0 21 rfl rfl)
theorem dX2_ends_24 : decode cX2_ends 24 = .ok (.iload_n 2, 1) := dk_28 (dk_at dksX2_ends_1 0 rfl rfl)
theorem dX2_ends_25 : decode cX2_ends 25 = .ok (.iconst 1, 1) := dk_4 (dk_at dksX2_ends_1 1 rfl rfl)
theorem dX2_ends_26 : decode cX2_ends 26 = .ok (.iadd, 1) := dk_96 (dk_at dksX2_ends_1 2 rfl rfl)
theorem dX2_ends_27 : decode cX2_ends 27 = .ok (.aload_n 0, 1) := dk_42 (dk_at dksX2_ends_1 3 rfl rfl)
theorem dX2_ends_28 : decode cX2_ends 28 = .ok (.getfield 87, 3) := dk_180 0 87 (dk_at dksX2_ends_1 4 rfl rfl)
theorem dX2_ends_31 : decode cX2_ends 31 = .ok (.iconst 1, 1) := dk_4 (dk_at dksX2_ends_1 7 rfl rfl)
theorem dX2_ends_32 : decode cX2_ends 32 = .ok (.laload, 1) := dk_47 (dk_at dksX2_ends_1 8 rfl rfl)
theorem dX2_ends_33 : decode cX2_ends 33 = .ok (.lastore, 1) := dk_80 (dk_at dksX2_ends_1 9 rfl rfl)
theorem dX2_ends_34 : decode cX2_ends 34 = .ok (.aload_n 0, 1) := dk_42 (dk_at dksX2_ends_1 10 rfl rfl)
theorem dX2_ends_35 : decode cX2_ends 35 = .ok (.getfield 13, 3) := dk_180 0 13 (dk_at dksX2_ends_1 11 rfl rfl)
theorem dX2_ends_38 : decode cX2_ends 38 = .ok (.bipush 45, 2) := dk_16 45 (dk_at dksX2_ends_1 14 rfl rfl)
theorem dX2_ends_40 : decode cX2_ends 40 = .ok (.iload_n 1, 1) := dk_27 (dk_at dksX2_ends_1 16 rfl rfl)
theorem dX2_ends_41 : decode cX2_ends 41 = .ok (.imul, 1) := dk_104 (dk_at dksX2_ends_1 17 rfl rfl)
theorem dX2_ends_42 : decode cX2_ends 42 = .ok (.iconst 2, 1) := dk_5 (dk_at dksX2_ends_1 18 rfl rfl)
theorem dX2_ends_43 : decode cX2_ends 43 = .ok (.iadd, 1) := dk_96 (dk_at dksX2_ends_1 19 rfl rfl)
theorem dX2_ends_44 : decode cX2_ends 44 = .ok (.aload_n 0, 1) := dk_42 (dk_at dksX2_ends_1 20 rfl rfl)
theorem dX2_ends_45 : decode cX2_ends 45 = .ok (.getfield 93, 3) := dk_180 0 93 (dk_at dksX2_ends_1 21 rfl rfl)
theorem dX2_ends_48 : decode cX2_ends 48 = .ok (.iconst 1, 1) := dk_4 (dk_at dksX2_ends_2 0 rfl rfl)
theorem dX2_ends_49 : decode cX2_ends 49 = .ok (.iaload, 1) := dk_46 (dk_at dksX2_ends_2 1 rfl rfl)
theorem dX2_ends_50 : decode cX2_ends 50 = .ok (.iastore, 1) := dk_79 (dk_at dksX2_ends_2 2 rfl rfl)
theorem dX2_ends_51 : decode cX2_ends 51 = .ok (.aload_n 0, 1) := dk_42 (dk_at dksX2_ends_2 3 rfl rfl)
theorem dX2_ends_52 : decode cX2_ends 52 = .ok (.getfield 13, 3) := dk_180 0 13 (dk_at dksX2_ends_2 4 rfl rfl)
theorem dX2_ends_55 : decode cX2_ends 55 = .ok (.bipush 45, 2) := dk_16 45 (dk_at dksX2_ends_2 7 rfl rfl)
theorem dX2_ends_57 : decode cX2_ends 57 = .ok (.iload_n 1, 1) := dk_27 (dk_at dksX2_ends_2 9 rfl rfl)
theorem dX2_ends_58 : decode cX2_ends 58 = .ok (.imul, 1) := dk_104 (dk_at dksX2_ends_2 10 rfl rfl)
theorem dX2_ends_59 : decode cX2_ends 59 = .ok (.iconst 3, 1) := dk_6 (dk_at dksX2_ends_2 11 rfl rfl)
theorem dX2_ends_60 : decode cX2_ends 60 = .ok (.iadd, 1) := dk_96 (dk_at dksX2_ends_2 12 rfl rfl)
theorem dX2_ends_61 : decode cX2_ends 61 = .ok (.aload_n 0, 1) := dk_42 (dk_at dksX2_ends_2 13 rfl rfl)
theorem dX2_ends_62 : decode cX2_ends 62 = .ok (.getfield 96, 3) := dk_180 0 96 (dk_at dksX2_ends_2 14 rfl rfl)
theorem dX2_ends_65 : decode cX2_ends 65 = .ok (.iconst 1, 1) := dk_4 (dk_at dksX2_ends_2 17 rfl rfl)
theorem dX2_ends_66 : decode cX2_ends 66 = .ok (.iaload, 1) := dk_46 (dk_at dksX2_ends_2 18 rfl rfl)
theorem dX2_ends_67 : decode cX2_ends 67 = .ok (.iastore, 1) := dk_79 (dk_at dksX2_ends_2 19 rfl rfl)
theorem dX2_ends_68 : decode cX2_ends 68 = .ok (.aload_n 0, 1) := dk_42 (dk_at dksX2_ends_2 20 rfl rfl)
theorem dX2_ends_69 : decode cX2_ends 69 = .ok (.getfield 13, 3) := dk_180 0 13 (dk_at dksX2_ends_2 21 rfl rfl)
theorem dX2_ends_72 : decode cX2_ends 72 = .ok (.bipush 45, 2) := dk_16 45 (dk_at dksX2_ends_3 0 rfl rfl)
theorem dX2_ends_74 : decode cX2_ends 74 = .ok (.iload_n 1, 1) := dk_27 (dk_at dksX2_ends_3 2 rfl rfl)
theorem dX2_ends_75 : decode cX2_ends 75 = .ok (.imul, 1) := dk_104 (dk_at dksX2_ends_3 3 rfl rfl)
theorem dX2_ends_76 : decode cX2_ends 76 = .ok (.iconst 4, 1) := dk_7 (dk_at dksX2_ends_3 4 rfl rfl)
theorem dX2_ends_77 : decode cX2_ends 77 = .ok (.iadd, 1) := dk_96 (dk_at dksX2_ends_3 5 rfl rfl)
theorem dX2_ends_78 : decode cX2_ends 78 = .ok (.aload_n 0, 1) := dk_42 (dk_at dksX2_ends_3 6 rfl rfl)
theorem dX2_ends_79 : decode cX2_ends 79 = .ok (.getfield 99, 3) := dk_180 0 99 (dk_at dksX2_ends_3 7 rfl rfl)
theorem dX2_ends_82 : decode cX2_ends 82 = .ok (.iconst 1, 1) := dk_4 (dk_at dksX2_ends_3 10 rfl rfl)
theorem dX2_ends_83 : decode cX2_ends 83 = .ok (.iaload, 1) := dk_46 (dk_at dksX2_ends_3 11 rfl rfl)
theorem dX2_ends_84 : decode cX2_ends 84 = .ok (.iastore, 1) := dk_79 (dk_at dksX2_ends_3 12 rfl rfl)
theorem dX2_ends_85 : decode cX2_ends 85 = .ok (.lconst 0, 1) := dk_9 (dk_at dksX2_ends_3 13 rfl rfl)
theorem dX2_ends_86 : decode cX2_ends 86 = .ok (.lstore_n 3, 1) := dk_66 (dk_at dksX2_ends_3 14 rfl rfl)
theorem dX2_ends_87 : decode cX2_ends 87 = .ok (.iconst 0, 1) := dk_3 (dk_at dksX2_ends_3 15 rfl rfl)
theorem dX2_ends_88 : decode cX2_ends 88 = .ok (.istore 5, 2) := dk_54 5 (dk_at dksX2_ends_3 16 rfl rfl)
theorem dX2_ends_90 : decode cX2_ends 90 = .ok (.iload 5, 2) := dk_21 5 (dk_at dksX2_ends_3 18 rfl rfl)
theorem dX2_ends_92 : decode cX2_ends 92 = .ok (.bipush 40, 2) := dk_16 40 (dk_at dksX2_ends_3 20 rfl rfl)
theorem dX2_ends_94 : decode cX2_ends 94 = .ok (.if_icmp .ge 101, 3) := dk_162 0 101 (dk_at dksX2_ends_4 0 rfl rfl)
theorem dX2_ends_97 : decode cX2_ends 97 = .ok (.aload_n 0, 1) := dk_42 (dk_at dksX2_ends_4 3 rfl rfl)
theorem dX2_ends_98 : decode cX2_ends 98 = .ok (.getfield 236, 3) := dk_180 0 236 (dk_at dksX2_ends_4 4 rfl rfl)
theorem dX2_ends_101 : decode cX2_ends 101 = .ok (.ifCond .ne 94, 3) := dk_154 0 94 (dk_at dksX2_ends_4 7 rfl rfl)
theorem dX2_ends_104 : decode cX2_ends 104 = .ok (.iconst 0, 1) := dk_3 (dk_at dksX2_ends_4 10 rfl rfl)
theorem dX2_ends_105 : decode cX2_ends 105 = .ok (.istore 6, 2) := dk_54 6 (dk_at dksX2_ends_4 11 rfl rfl)
theorem dX2_ends_107 : decode cX2_ends 107 = .ok (.iload 6, 2) := dk_21 6 (dk_at dksX2_ends_4 13 rfl rfl)
theorem dX2_ends_109 : decode cX2_ends 109 = .ok (.aload_n 0, 1) := dk_42 (dk_at dksX2_ends_4 15 rfl rfl)
theorem dX2_ends_110 : decode cX2_ends 110 = .ok (.invokevirtual 240, 3) := dk_182 0 240 (dk_at dksX2_ends_4 16 rfl rfl)
theorem dX2_ends_113 : decode cX2_ends 113 = .ok (.if_icmp .ge 76, 3) := dk_162 0 76 (dk_at dksX2_ends_4 19 rfl rfl)
theorem dX2_ends_116 : decode cX2_ends 116 = .ok (.aload_n 0, 1) := dk_42 (dk_at dksX2_ends_4 22 rfl rfl)
theorem dX2_ends_117 : decode cX2_ends 117 = .ok (.iload_n 1, 1) := dk_27 (dk_at dksX2_ends_4 23 rfl rfl)
theorem dX2_ends_118 : decode cX2_ends 118 = .ok (.iload 6, 2) := dk_21 6 (dk_at dksX2_ends_5 0 rfl rfl)
theorem dX2_ends_120 : decode cX2_ends 120 = .ok (.invokevirtual 281, 3) := dk_182 1 25 (dk_at dksX2_ends_5 2 rfl rfl)
theorem dX2_ends_123 : decode cX2_ends 123 = .ok (.ifCond .eq 41, 3) := dk_153 0 41 (dk_at dksX2_ends_5 5 rfl rfl)
theorem dX2_ends_126 : decode cX2_ends 126 = .ok (.aload_n 0, 1) := dk_42 (dk_at dksX2_ends_5 8 rfl rfl)
theorem dX2_ends_127 : decode cX2_ends 127 = .ok (.getfield 87, 3) := dk_180 0 87 (dk_at dksX2_ends_5 9 rfl rfl)
theorem dX2_ends_130 : decode cX2_ends 130 = .ok (.iconst 1, 1) := dk_4 (dk_at dksX2_ends_5 12 rfl rfl)
theorem dX2_ends_131 : decode cX2_ends 131 = .ok (.laload, 1) := dk_47 (dk_at dksX2_ends_5 13 rfl rfl)
theorem dX2_ends_132 : decode cX2_ends 132 = .ok (.iload 6, 2) := dk_21 6 (dk_at dksX2_ends_5 14 rfl rfl)
theorem dX2_ends_134 : decode cX2_ends 134 = .ok (.lshr, 1) := dk_123 (dk_at dksX2_ends_5 16 rfl rfl)
theorem dX2_ends_135 : decode cX2_ends 135 = .ok (.lconst 1, 1) := dk_10 (dk_at dksX2_ends_5 17 rfl rfl)
theorem dX2_ends_136 : decode cX2_ends 136 = .ok (.land, 1) := dk_127 (dk_at dksX2_ends_5 18 rfl rfl)
theorem dX2_ends_137 : decode cX2_ends 137 = .ok (.lconst 1, 1) := dk_10 (dk_at dksX2_ends_5 19 rfl rfl)
theorem dX2_ends_138 : decode cX2_ends 138 = .ok (.lcmp, 1) := dk_148 (dk_at dksX2_ends_5 20 rfl rfl)
theorem dX2_ends_139 : decode cX2_ends 139 = .ok (.ifCond .eq 21, 3) := dk_153 0 21 (dk_at dksX2_ends_5 21 rfl rfl)
theorem dX2_ends_142 : decode cX2_ends 142 = .ok (.aload_n 0, 1) := dk_42 (dk_at dksX2_ends_6 0 rfl rfl)
theorem dX2_ends_143 : decode cX2_ends 143 = .ok (.getfield 20, 3) := dk_180 0 20 (dk_at dksX2_ends_6 1 rfl rfl)
theorem dX2_ends_146 : decode cX2_ends 146 = .ok (.iload_n 2, 1) := dk_28 (dk_at dksX2_ends_6 4 rfl rfl)
theorem dX2_ends_147 : decode cX2_ends 147 = .ok (.iconst 3, 1) := dk_6 (dk_at dksX2_ends_6 5 rfl rfl)
theorem dX2_ends_148 : decode cX2_ends 148 = .ok (.iadd, 1) := dk_96 (dk_at dksX2_ends_6 6 rfl rfl)
theorem dX2_ends_149 : decode cX2_ends 149 = .ok (.iload 6, 2) := dk_21 6 (dk_at dksX2_ends_6 7 rfl rfl)
theorem dX2_ends_151 : decode cX2_ends 151 = .ok (.iadd, 1) := dk_96 (dk_at dksX2_ends_6 9 rfl rfl)
theorem dX2_ends_152 : decode cX2_ends 152 = .ok (.laload, 1) := dk_47 (dk_at dksX2_ends_6 10 rfl rfl)
theorem dX2_ends_153 : decode cX2_ends 153 = .ok (.lload_n 3, 1) := dk_33 (dk_at dksX2_ends_6 11 rfl rfl)
theorem dX2_ends_154 : decode cX2_ends 154 = .ok (.land, 1) := dk_127 (dk_at dksX2_ends_6 12 rfl rfl)
theorem dX2_ends_155 : decode cX2_ends 155 = .ok (.lconst 0, 1) := dk_9 (dk_at dksX2_ends_6 13 rfl rfl)
theorem dX2_ends_156 : decode cX2_ends 156 = .ok (.lcmp, 1) := dk_148 (dk_at dksX2_ends_6 14 rfl rfl)
theorem dX2_ends_157 : decode cX2_ends 157 = .ok (.ifCond .eq 7, 3) := dk_153 0 7 (dk_at dksX2_ends_6 15 rfl rfl)
theorem dX2_ends_160 : decode cX2_ends 160 = .ok (.iconst 1, 1) := dk_4 (dk_at dksX2_ends_6 18 rfl rfl)
theorem dX2_ends_161 : decode cX2_ends 161 = .ok (.goto 4, 3) := dk_167 0 4 (dk_at dksX2_ends_6 19 rfl rfl)
theorem dX2_ends_164 : decode cX2_ends 164 = .ok (.iconst 0, 1) := dk_3 (dk_at dksX2_ends_6 22 rfl rfl)
theorem dX2_ends_165 : decode cX2_ends 165 = .ok (.istore 7, 2) := dk_54 7 (dk_at dksX2_ends_7 0 rfl rfl)
theorem dX2_ends_167 : decode cX2_ends 167 = .ok (.lload_n 3, 1) := dk_33 (dk_at dksX2_ends_7 2 rfl rfl)
theorem dX2_ends_168 : decode cX2_ends 168 = .ok (.iload 7, 2) := dk_21 7 (dk_at dksX2_ends_7 3 rfl rfl)
theorem dX2_ends_170 : decode cX2_ends 170 = .ok (.ifCond .eq 10, 3) := dk_153 0 10 (dk_at dksX2_ends_7 5 rfl rfl)
theorem dX2_ends_173 : decode cX2_ends 173 = .ok (.lconst 1, 1) := dk_10 (dk_at dksX2_ends_7 8 rfl rfl)
theorem dX2_ends_174 : decode cX2_ends 174 = .ok (.iload 6, 2) := dk_21 6 (dk_at dksX2_ends_7 9 rfl rfl)
theorem dX2_ends_176 : decode cX2_ends 176 = .ok (.lshl, 1) := dk_121 (dk_at dksX2_ends_7 11 rfl rfl)
theorem dX2_ends_177 : decode cX2_ends 177 = .ok (.goto 4, 3) := dk_167 0 4 (dk_at dksX2_ends_7 12 rfl rfl)
theorem dX2_ends_180 : decode cX2_ends 180 = .ok (.lconst 0, 1) := dk_9 (dk_at dksX2_ends_7 15 rfl rfl)
theorem dX2_ends_181 : decode cX2_ends 181 = .ok (.lor, 1) := dk_129 (dk_at dksX2_ends_7 16 rfl rfl)
theorem dX2_ends_182 : decode cX2_ends 182 = .ok (.lstore_n 3, 1) := dk_66 (dk_at dksX2_ends_7 17 rfl rfl)
theorem dX2_ends_183 : decode cX2_ends 183 = .ok (.iinc 6 1, 3) := dk_132 6 1 (dk_at dksX2_ends_7 18 rfl rfl)
theorem dX2_ends_186 : decode cX2_ends 186 = .ok (.goto (-79), 3) := dk_167 255 177 (dk_at dksX2_ends_7 21 rfl rfl)
theorem dX2_ends_189 : decode cX2_ends 189 = .ok (.iinc 5 1, 3) := dk_132 5 1 (dk_at dksX2_ends_8 0 rfl rfl)
theorem dX2_ends_192 : decode cX2_ends 192 = .ok (.goto (-102), 3) := dk_167 255 154 (dk_at dksX2_ends_8 3 rfl rfl)
theorem dX2_ends_195 : decode cX2_ends 195 = .ok (.aload_n 0, 1) := dk_42 (dk_at dksX2_ends_8 6 rfl rfl)
theorem dX2_ends_196 : decode cX2_ends 196 = .ok (.getfield 20, 3) := dk_180 0 20 (dk_at dksX2_ends_8 7 rfl rfl)
theorem dX2_ends_199 : decode cX2_ends 199 = .ok (.iload_n 2, 1) := dk_28 (dk_at dksX2_ends_8 10 rfl rfl)
theorem dX2_ends_200 : decode cX2_ends 200 = .ok (.iconst 2, 1) := dk_5 (dk_at dksX2_ends_8 11 rfl rfl)
theorem dX2_ends_201 : decode cX2_ends 201 = .ok (.iadd, 1) := dk_96 (dk_at dksX2_ends_8 12 rfl rfl)
theorem dX2_ends_202 : decode cX2_ends 202 = .ok (.lload_n 3, 1) := dk_33 (dk_at dksX2_ends_8 13 rfl rfl)
theorem dX2_ends_203 : decode cX2_ends 203 = .ok (.lastore, 1) := dk_80 (dk_at dksX2_ends_8 14 rfl rfl)
theorem dX2_ends_204 : decode cX2_ends 204 = .ok (.return_, 1) := dk_177 (dk_at dksX2_ends_8 15 rfl rfl)
abbrev cX2_isFulfillable : ByteArray := prog_21_method_35_code
def yX2_isFulfillable : MethodName := ⟨RX2, "isFulfillable", "(II)Z"⟩
def dkwX2_isFulfillable_2 : List UInt8 := [21, 5, 96, 47, 9, 148, 153, 0, 7, 4, 167, 0, 4, 3, 62, 132, 5, 1, 167, 255, 222, 29, 172]
abbrev dktX2_isFulfillable_2 : List UInt8 := dkwX2_isFulfillable_2 ++ []
def dkwX2_isFulfillable_1 : List UInt8 := [104, 96, 54, 4, 3, 54, 5, 21, 5, 7, 162, 0, 34, 29, 154, 0, 18, 42, 180, 0, 20, 21, 4]
abbrev dktX2_isFulfillable_1 : List UInt8 := dkwX2_isFulfillable_1 ++ dktX2_isFulfillable_2
def dkwX2_isFulfillable_0 : List UInt8 := [3, 62, 17, 0, 203, 27, 104, 16, 43, 96, 7, 42, 180, 0, 13, 16, 45, 27, 104, 8, 96, 28, 96, 46]
abbrev dktX2_isFulfillable_0 : List UInt8 := dkwX2_isFulfillable_0 ++ dktX2_isFulfillable_1
theorem dksX2_isFulfillable_0 : cX2_isFulfillable.data.toList.drop 0 = dktX2_isFulfillable_0 := by decide +kernel
theorem dksX2_isFulfillable_1 : cX2_isFulfillable.data.toList.drop 24 = dktX2_isFulfillable_1 := dk_seg dksX2_isFulfillable_0 24 rfl rfl
theorem dksX2_isFulfillable_2 : cX2_isFulfillable.data.toList.drop 47 = dktX2_isFulfillable_2 := dk_seg dksX2_isFulfillable_1 23 rfl rfl
theorem dX2_isFulfillable_0 : decode cX2_isFulfillable 0 = .ok (.iconst 0, 1) := dk_3 (dk_at dksX2_isFulfillable_0 0 rfl rfl)
theorem dX2_isFulfillable_1 : decode cX2_isFulfillable 1 = .ok (.istore_n 3, 1) := dk_62 (dk_at dksX2_isFulfillable_0 1 rfl rfl)
theorem dX2_isFulfillable_2 : decode cX2_isFulfillable 2 = .ok (.sipush 203, 3) := dk_17 0 203 (dk_at dksX2_isFulfillable_0 2 rfl rfl)
theorem dX2_isFulfillable_5 : decode cX2_isFulfillable 5 = .ok (.iload_n 1, 1) := dk_27 (dk_at dksX2_isFulfillable_0 5 rfl rfl)
theorem dX2_isFulfillable_6 : decode cX2_isFulfillable 6 = .ok (.imul, 1) := dk_104 (dk_at dksX2_isFulfillable_0 6 rfl rfl)
theorem dX2_isFulfillable_7 : decode cX2_isFulfillable 7 = .ok (.bipush 43, 2) := dk_16 43 (dk_at dksX2_isFulfillable_0 7 rfl rfl)
theorem dX2_isFulfillable_9 : decode cX2_isFulfillable 9 = .ok (.iadd, 1) := dk_96 (dk_at dksX2_isFulfillable_0 9 rfl rfl)
theorem dX2_isFulfillable_10 : decode cX2_isFulfillable 10 = .ok (.iconst 4, 1) := dk_7 (dk_at dksX2_isFulfillable_0 10 rfl rfl)
theorem dX2_isFulfillable_11 : decode cX2_isFulfillable 11 = .ok (.aload_n 0, 1) := dk_42 (dk_at dksX2_isFulfillable_0 11 rfl rfl)
theorem dX2_isFulfillable_12 : decode cX2_isFulfillable 12 = .ok (.getfield 13, 3) := dk_180 0 13 (dk_at dksX2_isFulfillable_0 12 rfl rfl)
theorem dX2_isFulfillable_15 : decode cX2_isFulfillable 15 = .ok (.bipush 45, 2) := dk_16 45 (dk_at dksX2_isFulfillable_0 15 rfl rfl)
theorem dX2_isFulfillable_17 : decode cX2_isFulfillable 17 = .ok (.iload_n 1, 1) := dk_27 (dk_at dksX2_isFulfillable_0 17 rfl rfl)
theorem dX2_isFulfillable_18 : decode cX2_isFulfillable 18 = .ok (.imul, 1) := dk_104 (dk_at dksX2_isFulfillable_0 18 rfl rfl)
theorem dX2_isFulfillable_19 : decode cX2_isFulfillable 19 = .ok (.iconst 5, 1) := dk_8 (dk_at dksX2_isFulfillable_0 19 rfl rfl)
theorem dX2_isFulfillable_20 : decode cX2_isFulfillable 20 = .ok (.iadd, 1) := dk_96 (dk_at dksX2_isFulfillable_0 20 rfl rfl)
theorem dX2_isFulfillable_21 : decode cX2_isFulfillable 21 = .ok (.iload_n 2, 1) := dk_28 (dk_at dksX2_isFulfillable_0 21 rfl rfl)
theorem dX2_isFulfillable_22 : decode cX2_isFulfillable 22 = .ok (.iadd, 1) := dk_96 (dk_at dksX2_isFulfillable_0 22 rfl rfl)
theorem dX2_isFulfillable_23 : decode cX2_isFulfillable 23 = .ok (.iaload, 1) := dk_46 (dk_at dksX2_isFulfillable_0 23 rfl rfl)
theorem dX2_isFulfillable_24 : decode cX2_isFulfillable 24 = .ok (.imul, 1) := dk_104 (dk_at dksX2_isFulfillable_1 0 rfl rfl)
theorem dX2_isFulfillable_25 : decode cX2_isFulfillable 25 = .ok (.iadd, 1) := dk_96 (dk_at dksX2_isFulfillable_1 1 rfl rfl)
theorem dX2_isFulfillable_26 : decode cX2_isFulfillable 26 = .ok (.istore 4, 2) := dk_54 4 (dk_at dksX2_isFulfillable_1 2 rfl rfl)
theorem dX2_isFulfillable_28 : decode cX2_isFulfillable 28 = .ok (.iconst 0, 1) := dk_3 (dk_at dksX2_isFulfillable_1 4 rfl rfl)
theorem dX2_isFulfillable_29 : decode cX2_isFulfillable 29 = .ok (.istore 5, 2) := dk_54 5 (dk_at dksX2_isFulfillable_1 5 rfl rfl)
theorem dX2_isFulfillable_31 : decode cX2_isFulfillable 31 = .ok (.iload 5, 2) := dk_21 5 (dk_at dksX2_isFulfillable_1 7 rfl rfl)
theorem dX2_isFulfillable_33 : decode cX2_isFulfillable 33 = .ok (.iconst 4, 1) := dk_7 (dk_at dksX2_isFulfillable_1 9 rfl rfl)
theorem dX2_isFulfillable_34 : decode cX2_isFulfillable 34 = .ok (.if_icmp .ge 34, 3) := dk_162 0 34 (dk_at dksX2_isFulfillable_1 10 rfl rfl)
theorem dX2_isFulfillable_37 : decode cX2_isFulfillable 37 = .ok (.iload_n 3, 1) := dk_29 (dk_at dksX2_isFulfillable_1 13 rfl rfl)
theorem dX2_isFulfillable_38 : decode cX2_isFulfillable 38 = .ok (.ifCond .ne 18, 3) := dk_154 0 18 (dk_at dksX2_isFulfillable_1 14 rfl rfl)
theorem dX2_isFulfillable_41 : decode cX2_isFulfillable 41 = .ok (.aload_n 0, 1) := dk_42 (dk_at dksX2_isFulfillable_1 17 rfl rfl)
theorem dX2_isFulfillable_42 : decode cX2_isFulfillable 42 = .ok (.getfield 20, 3) := dk_180 0 20 (dk_at dksX2_isFulfillable_1 18 rfl rfl)
theorem dX2_isFulfillable_45 : decode cX2_isFulfillable 45 = .ok (.iload 4, 2) := dk_21 4 (dk_at dksX2_isFulfillable_1 21 rfl rfl)
theorem dX2_isFulfillable_47 : decode cX2_isFulfillable 47 = .ok (.iload 5, 2) := dk_21 5 (dk_at dksX2_isFulfillable_2 0 rfl rfl)
theorem dX2_isFulfillable_49 : decode cX2_isFulfillable 49 = .ok (.iadd, 1) := dk_96 (dk_at dksX2_isFulfillable_2 2 rfl rfl)
theorem dX2_isFulfillable_50 : decode cX2_isFulfillable 50 = .ok (.laload, 1) := dk_47 (dk_at dksX2_isFulfillable_2 3 rfl rfl)
theorem dX2_isFulfillable_51 : decode cX2_isFulfillable 51 = .ok (.lconst 0, 1) := dk_9 (dk_at dksX2_isFulfillable_2 4 rfl rfl)
theorem dX2_isFulfillable_52 : decode cX2_isFulfillable 52 = .ok (.lcmp, 1) := dk_148 (dk_at dksX2_isFulfillable_2 5 rfl rfl)
theorem dX2_isFulfillable_53 : decode cX2_isFulfillable 53 = .ok (.ifCond .eq 7, 3) := dk_153 0 7 (dk_at dksX2_isFulfillable_2 6 rfl rfl)
theorem dX2_isFulfillable_56 : decode cX2_isFulfillable 56 = .ok (.iconst 1, 1) := dk_4 (dk_at dksX2_isFulfillable_2 9 rfl rfl)
theorem dX2_isFulfillable_57 : decode cX2_isFulfillable 57 = .ok (.goto 4, 3) := dk_167 0 4 (dk_at dksX2_isFulfillable_2 10 rfl rfl)
theorem dX2_isFulfillable_60 : decode cX2_isFulfillable 60 = .ok (.iconst 0, 1) := dk_3 (dk_at dksX2_isFulfillable_2 13 rfl rfl)
theorem dX2_isFulfillable_61 : decode cX2_isFulfillable 61 = .ok (.istore_n 3, 1) := dk_62 (dk_at dksX2_isFulfillable_2 14 rfl rfl)
theorem dX2_isFulfillable_62 : decode cX2_isFulfillable 62 = .ok (.iinc 5 1, 3) := dk_132 5 1 (dk_at dksX2_isFulfillable_2 15 rfl rfl)
theorem dX2_isFulfillable_65 : decode cX2_isFulfillable 65 = .ok (.goto (-34), 3) := dk_167 255 222 (dk_at dksX2_isFulfillable_2 18 rfl rfl)
theorem dX2_isFulfillable_68 : decode cX2_isFulfillable 68 = .ok (.iload_n 3, 1) := dk_29 (dk_at dksX2_isFulfillable_2 21 rfl rfl)
theorem dX2_isFulfillable_69 : decode cX2_isFulfillable 69 = .ok (.ireturn, 1) := dk_172 (dk_at dksX2_isFulfillable_2 22 rfl rfl)
abbrev cX2_fault : ByteArray := prog_21_method_40_code
def yX2_fault : MethodName := ⟨RX2, "fault", "()I"⟩
theorem dX2_fault_0 : decode cX2_fault 0 = .ok (.aload_n 0, 1) := by decide +kernel
theorem dX2_fault_1 : decode cX2_fault 1 = .ok (.getfield 139, 3) := by decide +kernel
theorem dX2_fault_4 : decode cX2_fault 4 = .ok (.ireturn, 1) := by decide +kernel
abbrev cX2_fulfils : ByteArray := prog_21_method_52_code
def yX2_fulfils : MethodName := ⟨RX2, "fulfils", "(IIII)I"⟩
def dkwX2_fulfils_2 : List UInt8 := [182, 1, 44, 184, 0, 194, 172]
abbrev dktX2_fulfils_2 : List UInt8 := dkwX2_fulfils_2 ++ []
def dkwX2_fulfils_1 : List UInt8 := [160, 0, 13, 42, 27, 21, 4, 182, 1, 59, 167, 0, 15, 42, 5, 27, 104, 28, 96, 29, 21, 4]
abbrev dktX2_fulfils_1 : List UInt8 := dkwX2_fulfils_1 ++ dktX2_fulfils_2
def dkwX2_fulfils_0 : List UInt8 := [42, 27, 28, 29, 182, 1, 53, 153, 0, 11, 21, 4, 184, 1, 56, 154, 0, 5, 2, 172, 28, 5]
abbrev dktX2_fulfils_0 : List UInt8 := dkwX2_fulfils_0 ++ dktX2_fulfils_1
theorem dksX2_fulfils_0 : cX2_fulfils.data.toList.drop 0 = dktX2_fulfils_0 := by decide +kernel
theorem dksX2_fulfils_1 : cX2_fulfils.data.toList.drop 22 = dktX2_fulfils_1 := dk_seg dksX2_fulfils_0 22 rfl rfl
theorem dksX2_fulfils_2 : cX2_fulfils.data.toList.drop 44 = dktX2_fulfils_2 := dk_seg dksX2_fulfils_1 22 rfl rfl
theorem dX2_fulfils_0 : decode cX2_fulfils 0 = .ok (.aload_n 0, 1) := dk_42 (dk_at dksX2_fulfils_0 0 rfl rfl)
theorem dX2_fulfils_1 : decode cX2_fulfils 1 = .ok (.iload_n 1, 1) := dk_27 (dk_at dksX2_fulfils_0 1 rfl rfl)
theorem dX2_fulfils_2 : decode cX2_fulfils 2 = .ok (.iload_n 2, 1) := dk_28 (dk_at dksX2_fulfils_0 2 rfl rfl)
theorem dX2_fulfils_3 : decode cX2_fulfils 3 = .ok (.iload_n 3, 1) := dk_29 (dk_at dksX2_fulfils_0 3 rfl rfl)
theorem dX2_fulfils_4 : decode cX2_fulfils 4 = .ok (.invokevirtual 309, 3) := dk_182 1 53 (dk_at dksX2_fulfils_0 4 rfl rfl)
theorem dX2_fulfils_7 : decode cX2_fulfils 7 = .ok (.ifCond .eq 11, 3) := dk_153 0 11 (dk_at dksX2_fulfils_0 7 rfl rfl)
theorem dX2_fulfils_10 : decode cX2_fulfils 10 = .ok (.iload 4, 2) := dk_21 4 (dk_at dksX2_fulfils_0 10 rfl rfl)
theorem dX2_fulfils_12 : decode cX2_fulfils 12 = .ok (.invokestatic 312, 3) := dk_184 1 56 (dk_at dksX2_fulfils_0 12 rfl rfl)
theorem dX2_fulfils_15 : decode cX2_fulfils 15 = .ok (.ifCond .ne 5, 3) := dk_154 0 5 (dk_at dksX2_fulfils_0 15 rfl rfl)
theorem dX2_fulfils_18 : decode cX2_fulfils 18 = .ok (.iconst (-1), 1) := dk_2 (dk_at dksX2_fulfils_0 18 rfl rfl)
theorem dX2_fulfils_19 : decode cX2_fulfils 19 = .ok (.ireturn, 1) := dk_172 (dk_at dksX2_fulfils_0 19 rfl rfl)
theorem dX2_fulfils_20 : decode cX2_fulfils 20 = .ok (.iload_n 2, 1) := dk_28 (dk_at dksX2_fulfils_0 20 rfl rfl)
theorem dX2_fulfils_21 : decode cX2_fulfils 21 = .ok (.iconst 2, 1) := dk_5 (dk_at dksX2_fulfils_0 21 rfl rfl)
theorem dX2_fulfils_22 : decode cX2_fulfils 22 = .ok (.if_icmp .ne 13, 3) := dk_160 0 13 (dk_at dksX2_fulfils_1 0 rfl rfl)
theorem dX2_fulfils_25 : decode cX2_fulfils 25 = .ok (.aload_n 0, 1) := dk_42 (dk_at dksX2_fulfils_1 3 rfl rfl)
theorem dX2_fulfils_26 : decode cX2_fulfils 26 = .ok (.iload_n 1, 1) := dk_27 (dk_at dksX2_fulfils_1 4 rfl rfl)
theorem dX2_fulfils_27 : decode cX2_fulfils 27 = .ok (.iload 4, 2) := dk_21 4 (dk_at dksX2_fulfils_1 5 rfl rfl)
theorem dX2_fulfils_29 : decode cX2_fulfils 29 = .ok (.invokevirtual 315, 3) := dk_182 1 59 (dk_at dksX2_fulfils_1 7 rfl rfl)
theorem dX2_fulfils_32 : decode cX2_fulfils 32 = .ok (.goto 15, 3) := dk_167 0 15 (dk_at dksX2_fulfils_1 10 rfl rfl)
theorem dX2_fulfils_35 : decode cX2_fulfils 35 = .ok (.aload_n 0, 1) := dk_42 (dk_at dksX2_fulfils_1 13 rfl rfl)
theorem dX2_fulfils_36 : decode cX2_fulfils 36 = .ok (.iconst 2, 1) := dk_5 (dk_at dksX2_fulfils_1 14 rfl rfl)
theorem dX2_fulfils_37 : decode cX2_fulfils 37 = .ok (.iload_n 1, 1) := dk_27 (dk_at dksX2_fulfils_1 15 rfl rfl)
theorem dX2_fulfils_38 : decode cX2_fulfils 38 = .ok (.imul, 1) := dk_104 (dk_at dksX2_fulfils_1 16 rfl rfl)
theorem dX2_fulfils_39 : decode cX2_fulfils 39 = .ok (.iload_n 2, 1) := dk_28 (dk_at dksX2_fulfils_1 17 rfl rfl)
theorem dX2_fulfils_40 : decode cX2_fulfils 40 = .ok (.iadd, 1) := dk_96 (dk_at dksX2_fulfils_1 18 rfl rfl)
theorem dX2_fulfils_41 : decode cX2_fulfils 41 = .ok (.iload_n 3, 1) := dk_29 (dk_at dksX2_fulfils_1 19 rfl rfl)
theorem dX2_fulfils_42 : decode cX2_fulfils 42 = .ok (.iload 4, 2) := dk_21 4 (dk_at dksX2_fulfils_1 20 rfl rfl)
theorem dX2_fulfils_44 : decode cX2_fulfils 44 = .ok (.invokevirtual 300, 3) := dk_182 1 44 (dk_at dksX2_fulfils_2 0 rfl rfl)
theorem dX2_fulfils_47 : decode cX2_fulfils 47 = .ok (.invokestatic 194, 3) := dk_184 0 194 (dk_at dksX2_fulfils_2 3 rfl rfl)
theorem dX2_fulfils_50 : decode cX2_fulfils 50 = .ok (.ireturn, 1) := dk_172 (dk_at dksX2_fulfils_2 6 rfl rfl)
abbrev cX2_isConditionAsked : ByteArray := prog_21_method_51_code
def yX2_isConditionAsked : MethodName := ⟨RX2, "isConditionAsked", "(III)Z"⟩
def dkwX2_isConditionAsked_3 : List UInt8 := [184, 0, 131, 172]
abbrev dktX2_isConditionAsked_3 : List UInt8 := dkwX2_isConditionAsked_3 ++ []
def dkwX2_isConditionAsked_2 : List UInt8 := [167, 0, 27, 29, 133, 9, 42, 180, 0, 7, 16, 45, 5, 27, 104, 28, 96, 104, 4, 96, 46, 4, 100, 133]
abbrev dktX2_isConditionAsked_2 : List UInt8 := dkwX2_isConditionAsked_2 ++ dktX2_isConditionAsked_3
def dkwX2_isConditionAsked_1 : List UInt8 := [160, 0, 25, 42, 180, 0, 23, 5, 27, 104, 4, 96, 46, 4, 160, 0, 7, 4, 167, 0, 31, 3]
abbrev dktX2_isConditionAsked_1 : List UInt8 := dkwX2_isConditionAsked_1 ++ dktX2_isConditionAsked_2
def dkwX2_isConditionAsked_0 : List UInt8 := [42, 27, 182, 1, 48, 153, 0, 15, 28, 133, 9, 20, 1, 51, 184, 0, 131, 154, 0, 5, 3, 172, 28, 5]
abbrev dktX2_isConditionAsked_0 : List UInt8 := dkwX2_isConditionAsked_0 ++ dktX2_isConditionAsked_1
theorem dksX2_isConditionAsked_0 : cX2_isConditionAsked.data.toList.drop 0 = dktX2_isConditionAsked_0 := by decide +kernel
theorem dksX2_isConditionAsked_1 : cX2_isConditionAsked.data.toList.drop 24 = dktX2_isConditionAsked_1 := dk_seg dksX2_isConditionAsked_0 24 rfl rfl
theorem dksX2_isConditionAsked_2 : cX2_isConditionAsked.data.toList.drop 46 = dktX2_isConditionAsked_2 := dk_seg dksX2_isConditionAsked_1 22 rfl rfl
theorem dksX2_isConditionAsked_3 : cX2_isConditionAsked.data.toList.drop 70 = dktX2_isConditionAsked_3 := dk_seg dksX2_isConditionAsked_2 24 rfl rfl
theorem dX2_isConditionAsked_0 : decode cX2_isConditionAsked 0 = .ok (.aload_n 0, 1) := dk_42 (dk_at dksX2_isConditionAsked_0 0 rfl rfl)
theorem dX2_isConditionAsked_1 : decode cX2_isConditionAsked 1 = .ok (.iload_n 1, 1) := dk_27 (dk_at dksX2_isConditionAsked_0 1 rfl rfl)
theorem dX2_isConditionAsked_2 : decode cX2_isConditionAsked 2 = .ok (.invokevirtual 304, 3) := dk_182 1 48 (dk_at dksX2_isConditionAsked_0 2 rfl rfl)
theorem dX2_isConditionAsked_5 : decode cX2_isConditionAsked 5 = .ok (.ifCond .eq 15, 3) := dk_153 0 15 (dk_at dksX2_isConditionAsked_0 5 rfl rfl)
theorem dX2_isConditionAsked_8 : decode cX2_isConditionAsked 8 = .ok (.iload_n 2, 1) := dk_28 (dk_at dksX2_isConditionAsked_0 8 rfl rfl)
theorem dX2_isConditionAsked_9 : decode cX2_isConditionAsked 9 = .ok (.i2l, 1) := dk_133 (dk_at dksX2_isConditionAsked_0 9 rfl rfl)
theorem dX2_isConditionAsked_10 : decode cX2_isConditionAsked 10 = .ok (.lconst 0, 1) := dk_9 (dk_at dksX2_isConditionAsked_0 10 rfl rfl)
theorem dX2_isConditionAsked_11 : decode cX2_isConditionAsked 11 = .ok (.ldc2_w 307, 3) := dk_20 1 51 (dk_at dksX2_isConditionAsked_0 11 rfl rfl)
theorem dX2_isConditionAsked_14 : decode cX2_isConditionAsked 14 = .ok (.invokestatic 131, 3) := dk_184 0 131 (dk_at dksX2_isConditionAsked_0 14 rfl rfl)
theorem dX2_isConditionAsked_17 : decode cX2_isConditionAsked 17 = .ok (.ifCond .ne 5, 3) := dk_154 0 5 (dk_at dksX2_isConditionAsked_0 17 rfl rfl)
theorem dX2_isConditionAsked_20 : decode cX2_isConditionAsked 20 = .ok (.iconst 0, 1) := dk_3 (dk_at dksX2_isConditionAsked_0 20 rfl rfl)
theorem dX2_isConditionAsked_21 : decode cX2_isConditionAsked 21 = .ok (.ireturn, 1) := dk_172 (dk_at dksX2_isConditionAsked_0 21 rfl rfl)
theorem dX2_isConditionAsked_22 : decode cX2_isConditionAsked 22 = .ok (.iload_n 2, 1) := dk_28 (dk_at dksX2_isConditionAsked_0 22 rfl rfl)
theorem dX2_isConditionAsked_23 : decode cX2_isConditionAsked 23 = .ok (.iconst 2, 1) := dk_5 (dk_at dksX2_isConditionAsked_0 23 rfl rfl)
theorem dX2_isConditionAsked_24 : decode cX2_isConditionAsked 24 = .ok (.if_icmp .ne 25, 3) := dk_160 0 25 (dk_at dksX2_isConditionAsked_1 0 rfl rfl)
theorem dX2_isConditionAsked_27 : decode cX2_isConditionAsked 27 = .ok (.aload_n 0, 1) := dk_42 (dk_at dksX2_isConditionAsked_1 3 rfl rfl)
theorem dX2_isConditionAsked_28 : decode cX2_isConditionAsked 28 = .ok (.getfield 23, 3) := dk_180 0 23 (dk_at dksX2_isConditionAsked_1 4 rfl rfl)
theorem dX2_isConditionAsked_31 : decode cX2_isConditionAsked 31 = .ok (.iconst 2, 1) := dk_5 (dk_at dksX2_isConditionAsked_1 7 rfl rfl)
theorem dX2_isConditionAsked_32 : decode cX2_isConditionAsked 32 = .ok (.iload_n 1, 1) := dk_27 (dk_at dksX2_isConditionAsked_1 8 rfl rfl)
theorem dX2_isConditionAsked_33 : decode cX2_isConditionAsked 33 = .ok (.imul, 1) := dk_104 (dk_at dksX2_isConditionAsked_1 9 rfl rfl)
theorem dX2_isConditionAsked_34 : decode cX2_isConditionAsked 34 = .ok (.iconst 1, 1) := dk_4 (dk_at dksX2_isConditionAsked_1 10 rfl rfl)
theorem dX2_isConditionAsked_35 : decode cX2_isConditionAsked 35 = .ok (.iadd, 1) := dk_96 (dk_at dksX2_isConditionAsked_1 11 rfl rfl)
theorem dX2_isConditionAsked_36 : decode cX2_isConditionAsked 36 = .ok (.iaload, 1) := dk_46 (dk_at dksX2_isConditionAsked_1 12 rfl rfl)
theorem dX2_isConditionAsked_37 : decode cX2_isConditionAsked 37 = .ok (.iconst 1, 1) := dk_4 (dk_at dksX2_isConditionAsked_1 13 rfl rfl)
theorem dX2_isConditionAsked_38 : decode cX2_isConditionAsked 38 = .ok (.if_icmp .ne 7, 3) := dk_160 0 7 (dk_at dksX2_isConditionAsked_1 14 rfl rfl)
theorem dX2_isConditionAsked_41 : decode cX2_isConditionAsked 41 = .ok (.iconst 1, 1) := dk_4 (dk_at dksX2_isConditionAsked_1 17 rfl rfl)
theorem dX2_isConditionAsked_42 : decode cX2_isConditionAsked 42 = .ok (.goto 31, 3) := dk_167 0 31 (dk_at dksX2_isConditionAsked_1 18 rfl rfl)
theorem dX2_isConditionAsked_45 : decode cX2_isConditionAsked 45 = .ok (.iconst 0, 1) := dk_3 (dk_at dksX2_isConditionAsked_1 21 rfl rfl)
theorem dX2_isConditionAsked_46 : decode cX2_isConditionAsked 46 = .ok (.goto 27, 3) := dk_167 0 27 (dk_at dksX2_isConditionAsked_2 0 rfl rfl)
theorem dX2_isConditionAsked_49 : decode cX2_isConditionAsked 49 = .ok (.iload_n 3, 1) := dk_29 (dk_at dksX2_isConditionAsked_2 3 rfl rfl)
theorem dX2_isConditionAsked_50 : decode cX2_isConditionAsked 50 = .ok (.i2l, 1) := dk_133 (dk_at dksX2_isConditionAsked_2 4 rfl rfl)
theorem dX2_isConditionAsked_51 : decode cX2_isConditionAsked 51 = .ok (.lconst 0, 1) := dk_9 (dk_at dksX2_isConditionAsked_2 5 rfl rfl)
theorem dX2_isConditionAsked_52 : decode cX2_isConditionAsked 52 = .ok (.aload_n 0, 1) := dk_42 (dk_at dksX2_isConditionAsked_2 6 rfl rfl)
theorem dX2_isConditionAsked_53 : decode cX2_isConditionAsked 53 = .ok (.getfield 7, 3) := dk_180 0 7 (dk_at dksX2_isConditionAsked_2 7 rfl rfl)
theorem dX2_isConditionAsked_56 : decode cX2_isConditionAsked 56 = .ok (.bipush 45, 2) := dk_16 45 (dk_at dksX2_isConditionAsked_2 10 rfl rfl)
theorem dX2_isConditionAsked_58 : decode cX2_isConditionAsked 58 = .ok (.iconst 2, 1) := dk_5 (dk_at dksX2_isConditionAsked_2 12 rfl rfl)
theorem dX2_isConditionAsked_59 : decode cX2_isConditionAsked 59 = .ok (.iload_n 1, 1) := dk_27 (dk_at dksX2_isConditionAsked_2 13 rfl rfl)
theorem dX2_isConditionAsked_60 : decode cX2_isConditionAsked 60 = .ok (.imul, 1) := dk_104 (dk_at dksX2_isConditionAsked_2 14 rfl rfl)
theorem dX2_isConditionAsked_61 : decode cX2_isConditionAsked 61 = .ok (.iload_n 2, 1) := dk_28 (dk_at dksX2_isConditionAsked_2 15 rfl rfl)
theorem dX2_isConditionAsked_62 : decode cX2_isConditionAsked 62 = .ok (.iadd, 1) := dk_96 (dk_at dksX2_isConditionAsked_2 16 rfl rfl)
theorem dX2_isConditionAsked_63 : decode cX2_isConditionAsked 63 = .ok (.imul, 1) := dk_104 (dk_at dksX2_isConditionAsked_2 17 rfl rfl)
theorem dX2_isConditionAsked_64 : decode cX2_isConditionAsked 64 = .ok (.iconst 1, 1) := dk_4 (dk_at dksX2_isConditionAsked_2 18 rfl rfl)
theorem dX2_isConditionAsked_65 : decode cX2_isConditionAsked 65 = .ok (.iadd, 1) := dk_96 (dk_at dksX2_isConditionAsked_2 19 rfl rfl)
theorem dX2_isConditionAsked_66 : decode cX2_isConditionAsked 66 = .ok (.iaload, 1) := dk_46 (dk_at dksX2_isConditionAsked_2 20 rfl rfl)
theorem dX2_isConditionAsked_67 : decode cX2_isConditionAsked 67 = .ok (.iconst 1, 1) := dk_4 (dk_at dksX2_isConditionAsked_2 21 rfl rfl)
theorem dX2_isConditionAsked_68 : decode cX2_isConditionAsked 68 = .ok (.isub, 1) := dk_100 (dk_at dksX2_isConditionAsked_2 22 rfl rfl)
theorem dX2_isConditionAsked_69 : decode cX2_isConditionAsked 69 = .ok (.i2l, 1) := dk_133 (dk_at dksX2_isConditionAsked_2 23 rfl rfl)
theorem dX2_isConditionAsked_70 : decode cX2_isConditionAsked 70 = .ok (.invokestatic 131, 3) := dk_184 0 131 (dk_at dksX2_isConditionAsked_3 0 rfl rfl)
theorem dX2_isConditionAsked_73 : decode cX2_isConditionAsked 73 = .ok (.ireturn, 1) := dk_172 (dk_at dksX2_isConditionAsked_3 3 rfl rfl)
abbrev cX2_isPromise : ByteArray := prog_21_method_41_code
def yX2_isPromise : MethodName := ⟨RX2, "isPromise", "(I)Z"⟩
def dkwX2_isPromise_0 : List UInt8 := [27, 133, 9, 42, 180, 1, 39, 4, 100, 133, 184, 0, 131, 172]
abbrev dktX2_isPromise_0 : List UInt8 := dkwX2_isPromise_0 ++ []
theorem dksX2_isPromise_0 : cX2_isPromise.data.toList.drop 0 = dktX2_isPromise_0 := by decide +kernel
theorem dX2_isPromise_0 : decode cX2_isPromise 0 = .ok (.iload_n 1, 1) := dk_27 (dk_at dksX2_isPromise_0 0 rfl rfl)
theorem dX2_isPromise_1 : decode cX2_isPromise 1 = .ok (.i2l, 1) := dk_133 (dk_at dksX2_isPromise_0 1 rfl rfl)
theorem dX2_isPromise_2 : decode cX2_isPromise 2 = .ok (.lconst 0, 1) := dk_9 (dk_at dksX2_isPromise_0 2 rfl rfl)
theorem dX2_isPromise_3 : decode cX2_isPromise 3 = .ok (.aload_n 0, 1) := dk_42 (dk_at dksX2_isPromise_0 3 rfl rfl)
theorem dX2_isPromise_4 : decode cX2_isPromise 4 = .ok (.getfield 295, 3) := dk_180 1 39 (dk_at dksX2_isPromise_0 4 rfl rfl)
theorem dX2_isPromise_7 : decode cX2_isPromise 7 = .ok (.iconst 1, 1) := dk_4 (dk_at dksX2_isPromise_0 7 rfl rfl)
theorem dX2_isPromise_8 : decode cX2_isPromise 8 = .ok (.isub, 1) := dk_100 (dk_at dksX2_isPromise_0 8 rfl rfl)
theorem dX2_isPromise_9 : decode cX2_isPromise 9 = .ok (.i2l, 1) := dk_133 (dk_at dksX2_isPromise_0 9 rfl rfl)
theorem dX2_isPromise_10 : decode cX2_isPromise 10 = .ok (.invokestatic 131, 3) := dk_184 0 131 (dk_at dksX2_isPromise_0 10 rfl rfl)
theorem dX2_isPromise_13 : decode cX2_isPromise 13 = .ok (.ireturn, 1) := dk_172 (dk_at dksX2_isPromise_0 13 rfl rfl)
abbrev cX2_areBits : ByteArray := prog_21_method_43_code
def yX2_areBits : MethodName := ⟨RX2, "areBits", "(I)Z"⟩
def dkwX2_areBits_0 : List UInt8 := [26, 133, 9, 20, 1, 42, 184, 0, 131, 172]
abbrev dktX2_areBits_0 : List UInt8 := dkwX2_areBits_0 ++ []
theorem dksX2_areBits_0 : cX2_areBits.data.toList.drop 0 = dktX2_areBits_0 := by decide +kernel
theorem dX2_areBits_0 : decode cX2_areBits 0 = .ok (.iload_n 0, 1) := dk_26 (dk_at dksX2_areBits_0 0 rfl rfl)
theorem dX2_areBits_1 : decode cX2_areBits 1 = .ok (.i2l, 1) := dk_133 (dk_at dksX2_areBits_0 1 rfl rfl)
theorem dX2_areBits_2 : decode cX2_areBits 2 = .ok (.lconst 0, 1) := dk_9 (dk_at dksX2_areBits_0 2 rfl rfl)
theorem dX2_areBits_3 : decode cX2_areBits 3 = .ok (.ldc2_w 298, 3) := dk_20 1 42 (dk_at dksX2_areBits_0 3 rfl rfl)
theorem dX2_areBits_6 : decode cX2_areBits 6 = .ok (.invokestatic 131, 3) := dk_184 0 131 (dk_at dksX2_areBits_0 6 rfl rfl)
theorem dX2_areBits_9 : decode cX2_areBits 9 = .ok (.ireturn, 1) := dk_172 (dk_at dksX2_areBits_0 9 rfl rfl)
abbrev cX2_fulfilsOff : ByteArray := prog_21_method_45_code
def yX2_fulfilsOff : MethodName := ⟨RX2, "fulfilsOff", "(II)Z"⟩
def dkwX2_fulfilsOff_1 : List UInt8 := [108, 96, 47, 28, 16, 64, 112, 123, 10, 127, 10, 148, 154, 0, 7, 4, 167, 0, 4, 3, 172]
abbrev dktX2_fulfilsOff_1 : List UInt8 := dkwX2_fulfilsOff_1 ++ []
def dkwX2_fulfilsOff_0 : List UInt8 := [42, 180, 0, 23, 5, 27, 104, 4, 96, 46, 4, 160, 0, 32, 42, 180, 0, 29, 7, 27, 104, 28, 16, 64]
abbrev dktX2_fulfilsOff_0 : List UInt8 := dkwX2_fulfilsOff_0 ++ dktX2_fulfilsOff_1
theorem dksX2_fulfilsOff_0 : cX2_fulfilsOff.data.toList.drop 0 = dktX2_fulfilsOff_0 := by decide +kernel
theorem dksX2_fulfilsOff_1 : cX2_fulfilsOff.data.toList.drop 24 = dktX2_fulfilsOff_1 := dk_seg dksX2_fulfilsOff_0 24 rfl rfl
theorem dX2_fulfilsOff_0 : decode cX2_fulfilsOff 0 = .ok (.aload_n 0, 1) := dk_42 (dk_at dksX2_fulfilsOff_0 0 rfl rfl)
theorem dX2_fulfilsOff_1 : decode cX2_fulfilsOff 1 = .ok (.getfield 23, 3) := dk_180 0 23 (dk_at dksX2_fulfilsOff_0 1 rfl rfl)
theorem dX2_fulfilsOff_4 : decode cX2_fulfilsOff 4 = .ok (.iconst 2, 1) := dk_5 (dk_at dksX2_fulfilsOff_0 4 rfl rfl)
theorem dX2_fulfilsOff_5 : decode cX2_fulfilsOff 5 = .ok (.iload_n 1, 1) := dk_27 (dk_at dksX2_fulfilsOff_0 5 rfl rfl)
theorem dX2_fulfilsOff_6 : decode cX2_fulfilsOff 6 = .ok (.imul, 1) := dk_104 (dk_at dksX2_fulfilsOff_0 6 rfl rfl)
theorem dX2_fulfilsOff_7 : decode cX2_fulfilsOff 7 = .ok (.iconst 1, 1) := dk_4 (dk_at dksX2_fulfilsOff_0 7 rfl rfl)
theorem dX2_fulfilsOff_8 : decode cX2_fulfilsOff 8 = .ok (.iadd, 1) := dk_96 (dk_at dksX2_fulfilsOff_0 8 rfl rfl)
theorem dX2_fulfilsOff_9 : decode cX2_fulfilsOff 9 = .ok (.iaload, 1) := dk_46 (dk_at dksX2_fulfilsOff_0 9 rfl rfl)
theorem dX2_fulfilsOff_10 : decode cX2_fulfilsOff 10 = .ok (.iconst 1, 1) := dk_4 (dk_at dksX2_fulfilsOff_0 10 rfl rfl)
theorem dX2_fulfilsOff_11 : decode cX2_fulfilsOff 11 = .ok (.if_icmp .ne 32, 3) := dk_160 0 32 (dk_at dksX2_fulfilsOff_0 11 rfl rfl)
theorem dX2_fulfilsOff_14 : decode cX2_fulfilsOff 14 = .ok (.aload_n 0, 1) := dk_42 (dk_at dksX2_fulfilsOff_0 14 rfl rfl)
theorem dX2_fulfilsOff_15 : decode cX2_fulfilsOff 15 = .ok (.getfield 29, 3) := dk_180 0 29 (dk_at dksX2_fulfilsOff_0 15 rfl rfl)
theorem dX2_fulfilsOff_18 : decode cX2_fulfilsOff 18 = .ok (.iconst 4, 1) := dk_7 (dk_at dksX2_fulfilsOff_0 18 rfl rfl)
theorem dX2_fulfilsOff_19 : decode cX2_fulfilsOff 19 = .ok (.iload_n 1, 1) := dk_27 (dk_at dksX2_fulfilsOff_0 19 rfl rfl)
theorem dX2_fulfilsOff_20 : decode cX2_fulfilsOff 20 = .ok (.imul, 1) := dk_104 (dk_at dksX2_fulfilsOff_0 20 rfl rfl)
theorem dX2_fulfilsOff_21 : decode cX2_fulfilsOff 21 = .ok (.iload_n 2, 1) := dk_28 (dk_at dksX2_fulfilsOff_0 21 rfl rfl)
theorem dX2_fulfilsOff_22 : decode cX2_fulfilsOff 22 = .ok (.bipush 64, 2) := dk_16 64 (dk_at dksX2_fulfilsOff_0 22 rfl rfl)
theorem dX2_fulfilsOff_24 : decode cX2_fulfilsOff 24 = .ok (.idiv, 1) := dk_108 (dk_at dksX2_fulfilsOff_1 0 rfl rfl)
theorem dX2_fulfilsOff_25 : decode cX2_fulfilsOff 25 = .ok (.iadd, 1) := dk_96 (dk_at dksX2_fulfilsOff_1 1 rfl rfl)
theorem dX2_fulfilsOff_26 : decode cX2_fulfilsOff 26 = .ok (.laload, 1) := dk_47 (dk_at dksX2_fulfilsOff_1 2 rfl rfl)
theorem dX2_fulfilsOff_27 : decode cX2_fulfilsOff 27 = .ok (.iload_n 2, 1) := dk_28 (dk_at dksX2_fulfilsOff_1 3 rfl rfl)
theorem dX2_fulfilsOff_28 : decode cX2_fulfilsOff 28 = .ok (.bipush 64, 2) := dk_16 64 (dk_at dksX2_fulfilsOff_1 4 rfl rfl)
theorem dX2_fulfilsOff_30 : decode cX2_fulfilsOff 30 = .ok (.irem, 1) := dk_112 (dk_at dksX2_fulfilsOff_1 6 rfl rfl)
theorem dX2_fulfilsOff_31 : decode cX2_fulfilsOff 31 = .ok (.lshr, 1) := dk_123 (dk_at dksX2_fulfilsOff_1 7 rfl rfl)
theorem dX2_fulfilsOff_32 : decode cX2_fulfilsOff 32 = .ok (.lconst 1, 1) := dk_10 (dk_at dksX2_fulfilsOff_1 8 rfl rfl)
theorem dX2_fulfilsOff_33 : decode cX2_fulfilsOff 33 = .ok (.land, 1) := dk_127 (dk_at dksX2_fulfilsOff_1 9 rfl rfl)
theorem dX2_fulfilsOff_34 : decode cX2_fulfilsOff 34 = .ok (.lconst 1, 1) := dk_10 (dk_at dksX2_fulfilsOff_1 10 rfl rfl)
theorem dX2_fulfilsOff_35 : decode cX2_fulfilsOff 35 = .ok (.lcmp, 1) := dk_148 (dk_at dksX2_fulfilsOff_1 11 rfl rfl)
theorem dX2_fulfilsOff_36 : decode cX2_fulfilsOff 36 = .ok (.ifCond .ne 7, 3) := dk_154 0 7 (dk_at dksX2_fulfilsOff_1 12 rfl rfl)
theorem dX2_fulfilsOff_39 : decode cX2_fulfilsOff 39 = .ok (.iconst 1, 1) := dk_4 (dk_at dksX2_fulfilsOff_1 15 rfl rfl)
theorem dX2_fulfilsOff_40 : decode cX2_fulfilsOff 40 = .ok (.goto 4, 3) := dk_167 0 4 (dk_at dksX2_fulfilsOff_1 16 rfl rfl)
theorem dX2_fulfilsOff_43 : decode cX2_fulfilsOff 43 = .ok (.iconst 0, 1) := dk_3 (dk_at dksX2_fulfilsOff_1 19 rfl rfl)
theorem dX2_fulfilsOff_44 : decode cX2_fulfilsOff 44 = .ok (.ireturn, 1) := dk_172 (dk_at dksX2_fulfilsOff_1 20 rfl rfl)
abbrev cX2_fulfilsOne : ByteArray := prog_21_method_44_code
def yX2_fulfilsOne : MethodName := ⟨RX2, "fulfilsOne", "(III)Z"⟩
def dkwX2_fulfilsOne_1 : List UInt8 := [16, 64, 112, 123, 10, 127, 10, 148, 154, 0, 7, 4, 167, 0, 4, 3, 172]
abbrev dktX2_fulfilsOne_1 : List UInt8 := dkwX2_fulfilsOne_1 ++ []
def dkwX2_fulfilsOne_0 : List UInt8 := [42, 180, 0, 16, 17, 0, 203, 27, 104, 16, 43, 96, 7, 28, 104, 96, 29, 16, 64, 108, 96, 47, 29]
abbrev dktX2_fulfilsOne_0 : List UInt8 := dkwX2_fulfilsOne_0 ++ dktX2_fulfilsOne_1
theorem dksX2_fulfilsOne_0 : cX2_fulfilsOne.data.toList.drop 0 = dktX2_fulfilsOne_0 := by decide +kernel
theorem dksX2_fulfilsOne_1 : cX2_fulfilsOne.data.toList.drop 23 = dktX2_fulfilsOne_1 := dk_seg dksX2_fulfilsOne_0 23 rfl rfl
theorem dX2_fulfilsOne_0 : decode cX2_fulfilsOne 0 = .ok (.aload_n 0, 1) := dk_42 (dk_at dksX2_fulfilsOne_0 0 rfl rfl)
theorem dX2_fulfilsOne_1 : decode cX2_fulfilsOne 1 = .ok (.getfield 16, 3) := dk_180 0 16 (dk_at dksX2_fulfilsOne_0 1 rfl rfl)
theorem dX2_fulfilsOne_4 : decode cX2_fulfilsOne 4 = .ok (.sipush 203, 3) := dk_17 0 203 (dk_at dksX2_fulfilsOne_0 4 rfl rfl)
theorem dX2_fulfilsOne_7 : decode cX2_fulfilsOne 7 = .ok (.iload_n 1, 1) := dk_27 (dk_at dksX2_fulfilsOne_0 7 rfl rfl)
theorem dX2_fulfilsOne_8 : decode cX2_fulfilsOne 8 = .ok (.imul, 1) := dk_104 (dk_at dksX2_fulfilsOne_0 8 rfl rfl)
theorem dX2_fulfilsOne_9 : decode cX2_fulfilsOne 9 = .ok (.bipush 43, 2) := dk_16 43 (dk_at dksX2_fulfilsOne_0 9 rfl rfl)
theorem dX2_fulfilsOne_11 : decode cX2_fulfilsOne 11 = .ok (.iadd, 1) := dk_96 (dk_at dksX2_fulfilsOne_0 11 rfl rfl)
theorem dX2_fulfilsOne_12 : decode cX2_fulfilsOne 12 = .ok (.iconst 4, 1) := dk_7 (dk_at dksX2_fulfilsOne_0 12 rfl rfl)
theorem dX2_fulfilsOne_13 : decode cX2_fulfilsOne 13 = .ok (.iload_n 2, 1) := dk_28 (dk_at dksX2_fulfilsOne_0 13 rfl rfl)
theorem dX2_fulfilsOne_14 : decode cX2_fulfilsOne 14 = .ok (.imul, 1) := dk_104 (dk_at dksX2_fulfilsOne_0 14 rfl rfl)
theorem dX2_fulfilsOne_15 : decode cX2_fulfilsOne 15 = .ok (.iadd, 1) := dk_96 (dk_at dksX2_fulfilsOne_0 15 rfl rfl)
theorem dX2_fulfilsOne_16 : decode cX2_fulfilsOne 16 = .ok (.iload_n 3, 1) := dk_29 (dk_at dksX2_fulfilsOne_0 16 rfl rfl)
theorem dX2_fulfilsOne_17 : decode cX2_fulfilsOne 17 = .ok (.bipush 64, 2) := dk_16 64 (dk_at dksX2_fulfilsOne_0 17 rfl rfl)
theorem dX2_fulfilsOne_19 : decode cX2_fulfilsOne 19 = .ok (.idiv, 1) := dk_108 (dk_at dksX2_fulfilsOne_0 19 rfl rfl)
theorem dX2_fulfilsOne_20 : decode cX2_fulfilsOne 20 = .ok (.iadd, 1) := dk_96 (dk_at dksX2_fulfilsOne_0 20 rfl rfl)
theorem dX2_fulfilsOne_21 : decode cX2_fulfilsOne 21 = .ok (.laload, 1) := dk_47 (dk_at dksX2_fulfilsOne_0 21 rfl rfl)
theorem dX2_fulfilsOne_22 : decode cX2_fulfilsOne 22 = .ok (.iload_n 3, 1) := dk_29 (dk_at dksX2_fulfilsOne_0 22 rfl rfl)
theorem dX2_fulfilsOne_23 : decode cX2_fulfilsOne 23 = .ok (.bipush 64, 2) := dk_16 64 (dk_at dksX2_fulfilsOne_1 0 rfl rfl)
theorem dX2_fulfilsOne_25 : decode cX2_fulfilsOne 25 = .ok (.irem, 1) := dk_112 (dk_at dksX2_fulfilsOne_1 2 rfl rfl)
theorem dX2_fulfilsOne_26 : decode cX2_fulfilsOne 26 = .ok (.lshr, 1) := dk_123 (dk_at dksX2_fulfilsOne_1 3 rfl rfl)
theorem dX2_fulfilsOne_27 : decode cX2_fulfilsOne 27 = .ok (.lconst 1, 1) := dk_10 (dk_at dksX2_fulfilsOne_1 4 rfl rfl)
theorem dX2_fulfilsOne_28 : decode cX2_fulfilsOne 28 = .ok (.land, 1) := dk_127 (dk_at dksX2_fulfilsOne_1 5 rfl rfl)
theorem dX2_fulfilsOne_29 : decode cX2_fulfilsOne 29 = .ok (.lconst 1, 1) := dk_10 (dk_at dksX2_fulfilsOne_1 6 rfl rfl)
theorem dX2_fulfilsOne_30 : decode cX2_fulfilsOne 30 = .ok (.lcmp, 1) := dk_148 (dk_at dksX2_fulfilsOne_1 7 rfl rfl)
theorem dX2_fulfilsOne_31 : decode cX2_fulfilsOne 31 = .ok (.ifCond .ne 7, 3) := dk_154 0 7 (dk_at dksX2_fulfilsOne_1 8 rfl rfl)
theorem dX2_fulfilsOne_34 : decode cX2_fulfilsOne 34 = .ok (.iconst 1, 1) := dk_4 (dk_at dksX2_fulfilsOne_1 11 rfl rfl)
theorem dX2_fulfilsOne_35 : decode cX2_fulfilsOne 35 = .ok (.goto 4, 3) := dk_167 0 4 (dk_at dksX2_fulfilsOne_1 12 rfl rfl)
theorem dX2_fulfilsOne_38 : decode cX2_fulfilsOne 38 = .ok (.iconst 0, 1) := dk_3 (dk_at dksX2_fulfilsOne_1 15 rfl rfl)
theorem dX2_fulfilsOne_39 : decode cX2_fulfilsOne 39 = .ok (.ireturn, 1) := dk_172 (dk_at dksX2_fulfilsOne_1 16 rfl rfl)
abbrev cX2_fulfilled : ByteArray := prog_21_method_53_code
def yX2_fulfilled : MethodName := ⟨RX2, "fulfilled", "(III)I"⟩
def dkwX2_fulfilled_2 : List UInt8 := [21, 4, 172]
abbrev dktX2_fulfilled_2 : List UInt8 := dkwX2_fulfilled_2 ++ []
def dkwX2_fulfilled_1 : List UInt8 := [162, 0, 23, 21, 4, 42, 27, 28, 29, 21, 5, 182, 1, 62, 96, 54, 4, 132, 5, 1, 167, 255, 231]
abbrev dktX2_fulfilled_1 : List UInt8 := dkwX2_fulfilled_1 ++ dktX2_fulfilled_2
def dkwX2_fulfilled_0 : List UInt8 := [42, 27, 28, 29, 182, 1, 53, 154, 0, 5, 2, 172, 3, 54, 4, 3, 54, 5, 21, 5, 17, 1, 0]
abbrev dktX2_fulfilled_0 : List UInt8 := dkwX2_fulfilled_0 ++ dktX2_fulfilled_1
theorem dksX2_fulfilled_0 : cX2_fulfilled.data.toList.drop 0 = dktX2_fulfilled_0 := by decide +kernel
theorem dksX2_fulfilled_1 : cX2_fulfilled.data.toList.drop 23 = dktX2_fulfilled_1 := dk_seg dksX2_fulfilled_0 23 rfl rfl
theorem dksX2_fulfilled_2 : cX2_fulfilled.data.toList.drop 46 = dktX2_fulfilled_2 := dk_seg dksX2_fulfilled_1 23 rfl rfl
theorem dX2_fulfilled_0 : decode cX2_fulfilled 0 = .ok (.aload_n 0, 1) := dk_42 (dk_at dksX2_fulfilled_0 0 rfl rfl)
theorem dX2_fulfilled_1 : decode cX2_fulfilled 1 = .ok (.iload_n 1, 1) := dk_27 (dk_at dksX2_fulfilled_0 1 rfl rfl)
theorem dX2_fulfilled_2 : decode cX2_fulfilled 2 = .ok (.iload_n 2, 1) := dk_28 (dk_at dksX2_fulfilled_0 2 rfl rfl)
theorem dX2_fulfilled_3 : decode cX2_fulfilled 3 = .ok (.iload_n 3, 1) := dk_29 (dk_at dksX2_fulfilled_0 3 rfl rfl)
theorem dX2_fulfilled_4 : decode cX2_fulfilled 4 = .ok (.invokevirtual 309, 3) := dk_182 1 53 (dk_at dksX2_fulfilled_0 4 rfl rfl)
theorem dX2_fulfilled_7 : decode cX2_fulfilled 7 = .ok (.ifCond .ne 5, 3) := dk_154 0 5 (dk_at dksX2_fulfilled_0 7 rfl rfl)
theorem dX2_fulfilled_10 : decode cX2_fulfilled 10 = .ok (.iconst (-1), 1) := dk_2 (dk_at dksX2_fulfilled_0 10 rfl rfl)
theorem dX2_fulfilled_11 : decode cX2_fulfilled 11 = .ok (.ireturn, 1) := dk_172 (dk_at dksX2_fulfilled_0 11 rfl rfl)
theorem dX2_fulfilled_12 : decode cX2_fulfilled 12 = .ok (.iconst 0, 1) := dk_3 (dk_at dksX2_fulfilled_0 12 rfl rfl)
theorem dX2_fulfilled_13 : decode cX2_fulfilled 13 = .ok (.istore 4, 2) := dk_54 4 (dk_at dksX2_fulfilled_0 13 rfl rfl)
theorem dX2_fulfilled_15 : decode cX2_fulfilled 15 = .ok (.iconst 0, 1) := dk_3 (dk_at dksX2_fulfilled_0 15 rfl rfl)
theorem dX2_fulfilled_16 : decode cX2_fulfilled 16 = .ok (.istore 5, 2) := dk_54 5 (dk_at dksX2_fulfilled_0 16 rfl rfl)
theorem dX2_fulfilled_18 : decode cX2_fulfilled 18 = .ok (.iload 5, 2) := dk_21 5 (dk_at dksX2_fulfilled_0 18 rfl rfl)
theorem dX2_fulfilled_20 : decode cX2_fulfilled 20 = .ok (.sipush 256, 3) := dk_17 1 0 (dk_at dksX2_fulfilled_0 20 rfl rfl)
theorem dX2_fulfilled_23 : decode cX2_fulfilled 23 = .ok (.if_icmp .ge 23, 3) := dk_162 0 23 (dk_at dksX2_fulfilled_1 0 rfl rfl)
theorem dX2_fulfilled_26 : decode cX2_fulfilled 26 = .ok (.iload 4, 2) := dk_21 4 (dk_at dksX2_fulfilled_1 3 rfl rfl)
theorem dX2_fulfilled_28 : decode cX2_fulfilled 28 = .ok (.aload_n 0, 1) := dk_42 (dk_at dksX2_fulfilled_1 5 rfl rfl)
theorem dX2_fulfilled_29 : decode cX2_fulfilled 29 = .ok (.iload_n 1, 1) := dk_27 (dk_at dksX2_fulfilled_1 6 rfl rfl)
theorem dX2_fulfilled_30 : decode cX2_fulfilled 30 = .ok (.iload_n 2, 1) := dk_28 (dk_at dksX2_fulfilled_1 7 rfl rfl)
theorem dX2_fulfilled_31 : decode cX2_fulfilled 31 = .ok (.iload_n 3, 1) := dk_29 (dk_at dksX2_fulfilled_1 8 rfl rfl)
theorem dX2_fulfilled_32 : decode cX2_fulfilled 32 = .ok (.iload 5, 2) := dk_21 5 (dk_at dksX2_fulfilled_1 9 rfl rfl)
theorem dX2_fulfilled_34 : decode cX2_fulfilled 34 = .ok (.invokevirtual 318, 3) := dk_182 1 62 (dk_at dksX2_fulfilled_1 11 rfl rfl)
theorem dX2_fulfilled_37 : decode cX2_fulfilled 37 = .ok (.iadd, 1) := dk_96 (dk_at dksX2_fulfilled_1 14 rfl rfl)
theorem dX2_fulfilled_38 : decode cX2_fulfilled 38 = .ok (.istore 4, 2) := dk_54 4 (dk_at dksX2_fulfilled_1 15 rfl rfl)
theorem dX2_fulfilled_40 : decode cX2_fulfilled 40 = .ok (.iinc 5 1, 3) := dk_132 5 1 (dk_at dksX2_fulfilled_1 17 rfl rfl)
theorem dX2_fulfilled_43 : decode cX2_fulfilled 43 = .ok (.goto (-25), 3) := dk_167 255 231 (dk_at dksX2_fulfilled_1 20 rfl rfl)
theorem dX2_fulfilled_46 : decode cX2_fulfilled 46 = .ok (.iload 4, 2) := dk_21 4 (dk_at dksX2_fulfilled_2 0 rfl rfl)
theorem dX2_fulfilled_48 : decode cX2_fulfilled 48 = .ok (.ireturn, 1) := dk_172 (dk_at dksX2_fulfilled_2 2 rfl rfl)
abbrev cX2_matches : ByteArray := prog_21_method_54_code
def yX2_matches : MethodName := ⟨RX2, "matches", "(IIII)I"⟩
def dkwX2_matches_5 : List UInt8 := [167, 255, 202, 42, 5, 27, 104, 28, 96, 22, 5, 182, 1, 80, 184, 0, 194, 172]
abbrev dktX2_matches_5 : List UInt8 := dkwX2_matches_5 ++ []
def dkwX2_matches_4 : List UInt8 := [22, 5, 182, 1, 76, 42, 180, 0, 105, 16, 48, 28, 104, 21, 7, 96, 47, 127, 55, 5, 132, 7, 1]
abbrev dktX2_matches_4 : List UInt8 := dkwX2_matches_4 ++ dktX2_matches_5
def dkwX2_matches_3 : List UInt8 := [21, 7, 29, 160, 0, 15, 42, 5, 27, 104, 28, 96, 182, 1, 72, 167, 0, 14, 42, 5, 27, 104, 28, 96]
abbrev dktX2_matches_3 : List UInt8 := dkwX2_matches_3 ++ dktX2_matches_4
def dkwX2_matches_2 : List UInt8 := [161, 0, 5, 2, 172, 42, 27, 182, 1, 69, 9, 55, 5, 29, 54, 7, 21, 7, 21, 4, 163, 0, 53]
abbrev dktX2_matches_2 : List UInt8 := dkwX2_matches_2 ++ dktX2_matches_3
def dkwX2_matches_1 : List UInt8 := [133, 184, 0, 131, 153, 0, 22, 21, 4, 29, 4, 100, 161, 0, 14, 21, 4, 42, 180, 0, 35, 3, 46]
abbrev dktX2_matches_1 : List UInt8 := dkwX2_matches_1 ++ dktX2_matches_2
def dkwX2_matches_0 : List UInt8 := [42, 27, 182, 1, 48, 153, 0, 45, 28, 184, 1, 66, 153, 0, 38, 29, 133, 9, 42, 180, 0, 35, 3, 46]
abbrev dktX2_matches_0 : List UInt8 := dkwX2_matches_0 ++ dktX2_matches_1
theorem dksX2_matches_0 : cX2_matches.data.toList.drop 0 = dktX2_matches_0 := by decide +kernel
theorem dksX2_matches_1 : cX2_matches.data.toList.drop 24 = dktX2_matches_1 := dk_seg dksX2_matches_0 24 rfl rfl
theorem dksX2_matches_2 : cX2_matches.data.toList.drop 47 = dktX2_matches_2 := dk_seg dksX2_matches_1 23 rfl rfl
theorem dksX2_matches_3 : cX2_matches.data.toList.drop 70 = dktX2_matches_3 := dk_seg dksX2_matches_2 23 rfl rfl
theorem dksX2_matches_4 : cX2_matches.data.toList.drop 94 = dktX2_matches_4 := dk_seg dksX2_matches_3 24 rfl rfl
theorem dksX2_matches_5 : cX2_matches.data.toList.drop 117 = dktX2_matches_5 := dk_seg dksX2_matches_4 23 rfl rfl
theorem dX2_matches_0 : decode cX2_matches 0 = .ok (.aload_n 0, 1) := dk_42 (dk_at dksX2_matches_0 0 rfl rfl)
theorem dX2_matches_1 : decode cX2_matches 1 = .ok (.iload_n 1, 1) := dk_27 (dk_at dksX2_matches_0 1 rfl rfl)
theorem dX2_matches_2 : decode cX2_matches 2 = .ok (.invokevirtual 304, 3) := dk_182 1 48 (dk_at dksX2_matches_0 2 rfl rfl)
theorem dX2_matches_5 : decode cX2_matches 5 = .ok (.ifCond .eq 45, 3) := dk_153 0 45 (dk_at dksX2_matches_0 5 rfl rfl)
theorem dX2_matches_8 : decode cX2_matches 8 = .ok (.iload_n 2, 1) := dk_28 (dk_at dksX2_matches_0 8 rfl rfl)
theorem dX2_matches_9 : decode cX2_matches 9 = .ok (.invokestatic 322, 3) := dk_184 1 66 (dk_at dksX2_matches_0 9 rfl rfl)
theorem dX2_matches_12 : decode cX2_matches 12 = .ok (.ifCond .eq 38, 3) := dk_153 0 38 (dk_at dksX2_matches_0 12 rfl rfl)
theorem dX2_matches_15 : decode cX2_matches 15 = .ok (.iload_n 3, 1) := dk_29 (dk_at dksX2_matches_0 15 rfl rfl)
theorem dX2_matches_16 : decode cX2_matches 16 = .ok (.i2l, 1) := dk_133 (dk_at dksX2_matches_0 16 rfl rfl)
theorem dX2_matches_17 : decode cX2_matches 17 = .ok (.lconst 0, 1) := dk_9 (dk_at dksX2_matches_0 17 rfl rfl)
theorem dX2_matches_18 : decode cX2_matches 18 = .ok (.aload_n 0, 1) := dk_42 (dk_at dksX2_matches_0 18 rfl rfl)
theorem dX2_matches_19 : decode cX2_matches 19 = .ok (.getfield 35, 3) := dk_180 0 35 (dk_at dksX2_matches_0 19 rfl rfl)
theorem dX2_matches_22 : decode cX2_matches 22 = .ok (.iconst 0, 1) := dk_3 (dk_at dksX2_matches_0 22 rfl rfl)
theorem dX2_matches_23 : decode cX2_matches 23 = .ok (.iaload, 1) := dk_46 (dk_at dksX2_matches_0 23 rfl rfl)
theorem dX2_matches_24 : decode cX2_matches 24 = .ok (.i2l, 1) := dk_133 (dk_at dksX2_matches_1 0 rfl rfl)
theorem dX2_matches_25 : decode cX2_matches 25 = .ok (.invokestatic 131, 3) := dk_184 0 131 (dk_at dksX2_matches_1 1 rfl rfl)
theorem dX2_matches_28 : decode cX2_matches 28 = .ok (.ifCond .eq 22, 3) := dk_153 0 22 (dk_at dksX2_matches_1 4 rfl rfl)
theorem dX2_matches_31 : decode cX2_matches 31 = .ok (.iload 4, 2) := dk_21 4 (dk_at dksX2_matches_1 7 rfl rfl)
theorem dX2_matches_33 : decode cX2_matches 33 = .ok (.iload_n 3, 1) := dk_29 (dk_at dksX2_matches_1 9 rfl rfl)
theorem dX2_matches_34 : decode cX2_matches 34 = .ok (.iconst 1, 1) := dk_4 (dk_at dksX2_matches_1 10 rfl rfl)
theorem dX2_matches_35 : decode cX2_matches 35 = .ok (.isub, 1) := dk_100 (dk_at dksX2_matches_1 11 rfl rfl)
theorem dX2_matches_36 : decode cX2_matches 36 = .ok (.if_icmp .lt 14, 3) := dk_161 0 14 (dk_at dksX2_matches_1 12 rfl rfl)
theorem dX2_matches_39 : decode cX2_matches 39 = .ok (.iload 4, 2) := dk_21 4 (dk_at dksX2_matches_1 15 rfl rfl)
theorem dX2_matches_41 : decode cX2_matches 41 = .ok (.aload_n 0, 1) := dk_42 (dk_at dksX2_matches_1 17 rfl rfl)
theorem dX2_matches_42 : decode cX2_matches 42 = .ok (.getfield 35, 3) := dk_180 0 35 (dk_at dksX2_matches_1 18 rfl rfl)
theorem dX2_matches_45 : decode cX2_matches 45 = .ok (.iconst 0, 1) := dk_3 (dk_at dksX2_matches_1 21 rfl rfl)
theorem dX2_matches_46 : decode cX2_matches 46 = .ok (.iaload, 1) := dk_46 (dk_at dksX2_matches_1 22 rfl rfl)
theorem dX2_matches_47 : decode cX2_matches 47 = .ok (.if_icmp .lt 5, 3) := dk_161 0 5 (dk_at dksX2_matches_2 0 rfl rfl)
theorem dX2_matches_50 : decode cX2_matches 50 = .ok (.iconst (-1), 1) := dk_2 (dk_at dksX2_matches_2 3 rfl rfl)
theorem dX2_matches_51 : decode cX2_matches 51 = .ok (.ireturn, 1) := dk_172 (dk_at dksX2_matches_2 4 rfl rfl)
theorem dX2_matches_52 : decode cX2_matches 52 = .ok (.aload_n 0, 1) := dk_42 (dk_at dksX2_matches_2 5 rfl rfl)
theorem dX2_matches_53 : decode cX2_matches 53 = .ok (.iload_n 1, 1) := dk_27 (dk_at dksX2_matches_2 6 rfl rfl)
theorem dX2_matches_54 : decode cX2_matches 54 = .ok (.invokevirtual 325, 3) := dk_182 1 69 (dk_at dksX2_matches_2 7 rfl rfl)
theorem dX2_matches_57 : decode cX2_matches 57 = .ok (.lconst 0, 1) := dk_9 (dk_at dksX2_matches_2 10 rfl rfl)
theorem dX2_matches_58 : decode cX2_matches 58 = .ok (.lstore 5, 2) := dk_55 5 (dk_at dksX2_matches_2 11 rfl rfl)
theorem dX2_matches_60 : decode cX2_matches 60 = .ok (.iload_n 3, 1) := dk_29 (dk_at dksX2_matches_2 13 rfl rfl)
theorem dX2_matches_61 : decode cX2_matches 61 = .ok (.istore 7, 2) := dk_54 7 (dk_at dksX2_matches_2 14 rfl rfl)
theorem dX2_matches_63 : decode cX2_matches 63 = .ok (.iload 7, 2) := dk_21 7 (dk_at dksX2_matches_2 16 rfl rfl)
theorem dX2_matches_65 : decode cX2_matches 65 = .ok (.iload 4, 2) := dk_21 4 (dk_at dksX2_matches_2 18 rfl rfl)
theorem dX2_matches_67 : decode cX2_matches 67 = .ok (.if_icmp .gt 53, 3) := dk_163 0 53 (dk_at dksX2_matches_2 20 rfl rfl)
theorem dX2_matches_70 : decode cX2_matches 70 = .ok (.iload 7, 2) := dk_21 7 (dk_at dksX2_matches_3 0 rfl rfl)
theorem dX2_matches_72 : decode cX2_matches 72 = .ok (.iload_n 3, 1) := dk_29 (dk_at dksX2_matches_3 2 rfl rfl)
theorem dX2_matches_73 : decode cX2_matches 73 = .ok (.if_icmp .ne 15, 3) := dk_160 0 15 (dk_at dksX2_matches_3 3 rfl rfl)
theorem dX2_matches_76 : decode cX2_matches 76 = .ok (.aload_n 0, 1) := dk_42 (dk_at dksX2_matches_3 6 rfl rfl)
theorem dX2_matches_77 : decode cX2_matches 77 = .ok (.iconst 2, 1) := dk_5 (dk_at dksX2_matches_3 7 rfl rfl)
theorem dX2_matches_78 : decode cX2_matches 78 = .ok (.iload_n 1, 1) := dk_27 (dk_at dksX2_matches_3 8 rfl rfl)
theorem dX2_matches_79 : decode cX2_matches 79 = .ok (.imul, 1) := dk_104 (dk_at dksX2_matches_3 9 rfl rfl)
theorem dX2_matches_80 : decode cX2_matches 80 = .ok (.iload_n 2, 1) := dk_28 (dk_at dksX2_matches_3 10 rfl rfl)
theorem dX2_matches_81 : decode cX2_matches 81 = .ok (.iadd, 1) := dk_96 (dk_at dksX2_matches_3 11 rfl rfl)
theorem dX2_matches_82 : decode cX2_matches 82 = .ok (.invokevirtual 328, 3) := dk_182 1 72 (dk_at dksX2_matches_3 12 rfl rfl)
theorem dX2_matches_85 : decode cX2_matches 85 = .ok (.goto 14, 3) := dk_167 0 14 (dk_at dksX2_matches_3 15 rfl rfl)
theorem dX2_matches_88 : decode cX2_matches 88 = .ok (.aload_n 0, 1) := dk_42 (dk_at dksX2_matches_3 18 rfl rfl)
theorem dX2_matches_89 : decode cX2_matches 89 = .ok (.iconst 2, 1) := dk_5 (dk_at dksX2_matches_3 19 rfl rfl)
theorem dX2_matches_90 : decode cX2_matches 90 = .ok (.iload_n 1, 1) := dk_27 (dk_at dksX2_matches_3 20 rfl rfl)
theorem dX2_matches_91 : decode cX2_matches 91 = .ok (.imul, 1) := dk_104 (dk_at dksX2_matches_3 21 rfl rfl)
theorem dX2_matches_92 : decode cX2_matches 92 = .ok (.iload_n 2, 1) := dk_28 (dk_at dksX2_matches_3 22 rfl rfl)
theorem dX2_matches_93 : decode cX2_matches 93 = .ok (.iadd, 1) := dk_96 (dk_at dksX2_matches_3 23 rfl rfl)
theorem dX2_matches_94 : decode cX2_matches 94 = .ok (.lload 5, 2) := dk_22 5 (dk_at dksX2_matches_4 0 rfl rfl)
theorem dX2_matches_96 : decode cX2_matches 96 = .ok (.invokevirtual 332, 3) := dk_182 1 76 (dk_at dksX2_matches_4 2 rfl rfl)
theorem dX2_matches_99 : decode cX2_matches 99 = .ok (.aload_n 0, 1) := dk_42 (dk_at dksX2_matches_4 5 rfl rfl)
theorem dX2_matches_100 : decode cX2_matches 100 = .ok (.getfield 105, 3) := dk_180 0 105 (dk_at dksX2_matches_4 6 rfl rfl)
theorem dX2_matches_103 : decode cX2_matches 103 = .ok (.bipush 48, 2) := dk_16 48 (dk_at dksX2_matches_4 9 rfl rfl)
theorem dX2_matches_105 : decode cX2_matches 105 = .ok (.iload_n 2, 1) := dk_28 (dk_at dksX2_matches_4 11 rfl rfl)
theorem dX2_matches_106 : decode cX2_matches 106 = .ok (.imul, 1) := dk_104 (dk_at dksX2_matches_4 12 rfl rfl)
theorem dX2_matches_107 : decode cX2_matches 107 = .ok (.iload 7, 2) := dk_21 7 (dk_at dksX2_matches_4 13 rfl rfl)
theorem dX2_matches_109 : decode cX2_matches 109 = .ok (.iadd, 1) := dk_96 (dk_at dksX2_matches_4 15 rfl rfl)
theorem dX2_matches_110 : decode cX2_matches 110 = .ok (.laload, 1) := dk_47 (dk_at dksX2_matches_4 16 rfl rfl)
theorem dX2_matches_111 : decode cX2_matches 111 = .ok (.land, 1) := dk_127 (dk_at dksX2_matches_4 17 rfl rfl)
theorem dX2_matches_112 : decode cX2_matches 112 = .ok (.lstore 5, 2) := dk_55 5 (dk_at dksX2_matches_4 18 rfl rfl)
theorem dX2_matches_114 : decode cX2_matches 114 = .ok (.iinc 7 1, 3) := dk_132 7 1 (dk_at dksX2_matches_4 20 rfl rfl)
theorem dX2_matches_117 : decode cX2_matches 117 = .ok (.goto (-54), 3) := dk_167 255 202 (dk_at dksX2_matches_5 0 rfl rfl)
theorem dX2_matches_120 : decode cX2_matches 120 = .ok (.aload_n 0, 1) := dk_42 (dk_at dksX2_matches_5 3 rfl rfl)
theorem dX2_matches_121 : decode cX2_matches 121 = .ok (.iconst 2, 1) := dk_5 (dk_at dksX2_matches_5 4 rfl rfl)
theorem dX2_matches_122 : decode cX2_matches 122 = .ok (.iload_n 1, 1) := dk_27 (dk_at dksX2_matches_5 5 rfl rfl)
theorem dX2_matches_123 : decode cX2_matches 123 = .ok (.imul, 1) := dk_104 (dk_at dksX2_matches_5 6 rfl rfl)
theorem dX2_matches_124 : decode cX2_matches 124 = .ok (.iload_n 2, 1) := dk_28 (dk_at dksX2_matches_5 7 rfl rfl)
theorem dX2_matches_125 : decode cX2_matches 125 = .ok (.iadd, 1) := dk_96 (dk_at dksX2_matches_5 8 rfl rfl)
theorem dX2_matches_126 : decode cX2_matches 126 = .ok (.lload 5, 2) := dk_22 5 (dk_at dksX2_matches_5 9 rfl rfl)
theorem dX2_matches_128 : decode cX2_matches 128 = .ok (.invokevirtual 336, 3) := dk_182 1 80 (dk_at dksX2_matches_5 11 rfl rfl)
theorem dX2_matches_131 : decode cX2_matches 131 = .ok (.invokestatic 194, 3) := dk_184 0 194 (dk_at dksX2_matches_5 14 rfl rfl)
theorem dX2_matches_134 : decode cX2_matches 134 = .ok (.ireturn, 1) := dk_172 (dk_at dksX2_matches_5 17 rfl rfl)
abbrev cX2_isSide : ByteArray := prog_21_method_42_code
def yX2_isSide : MethodName := ⟨RX2, "isSide", "(I)Z"⟩
def dkwX2_isSide_0 : List UInt8 := [26, 133, 9, 10, 184, 0, 131, 172]
abbrev dktX2_isSide_0 : List UInt8 := dkwX2_isSide_0 ++ []
theorem dksX2_isSide_0 : cX2_isSide.data.toList.drop 0 = dktX2_isSide_0 := by decide +kernel
theorem dX2_isSide_0 : decode cX2_isSide 0 = .ok (.iload_n 0, 1) := dk_26 (dk_at dksX2_isSide_0 0 rfl rfl)
theorem dX2_isSide_1 : decode cX2_isSide 1 = .ok (.i2l, 1) := dk_133 (dk_at dksX2_isSide_0 1 rfl rfl)
theorem dX2_isSide_2 : decode cX2_isSide 2 = .ok (.lconst 0, 1) := dk_9 (dk_at dksX2_isSide_0 2 rfl rfl)
theorem dX2_isSide_3 : decode cX2_isSide 3 = .ok (.lconst 1, 1) := dk_10 (dk_at dksX2_isSide_0 3 rfl rfl)
theorem dX2_isSide_4 : decode cX2_isSide 4 = .ok (.invokestatic 131, 3) := dk_184 0 131 (dk_at dksX2_isSide_0 4 rfl rfl)
theorem dX2_isSide_7 : decode cX2_isSide 7 = .ok (.ireturn, 1) := dk_172 (dk_at dksX2_isSide_0 7 rfl rfl)
abbrev cX2_findsFulfilling : ByteArray := prog_21_method_46_code
def yX2_findsFulfilling : MethodName := ⟨RX2, "findsFulfilling", "(I)V"⟩
def dkwX2_findsFulfilling_5 : List UInt8 := [132, 4, 1, 167, 255, 156, 132, 2, 1, 167, 255, 136, 177]
abbrev dktX2_findsFulfilling_5 : List UInt8 := dkwX2_findsFulfilling_5 ++ []
def dkwX2_findsFulfilling_4 : List UInt8 := [55, 5, 132, 7, 1, 167, 255, 193, 42, 180, 0, 105, 16, 48, 28, 104, 21, 4, 96, 22, 5, 80]
abbrev dktX2_findsFulfilling_4 : List UInt8 := dkwX2_findsFulfilling_4 ++ dktX2_findsFulfilling_5
def dkwX2_findsFulfilling_3 : List UInt8 := [180, 0, 35, 4, 21, 4, 96, 46, 182, 1, 44, 153, 0, 10, 10, 21, 7, 121, 167, 0, 4, 9, 129]
abbrev dktX2_findsFulfilling_3 : List UInt8 := dkwX2_findsFulfilling_3 ++ dktX2_findsFulfilling_4
def dkwX2_findsFulfilling_2 : List UInt8 := [162, 0, 53, 22, 5, 42, 29, 42, 180, 0, 7, 16, 45, 29, 104, 8, 96, 21, 7, 96, 46, 42]
abbrev dktX2_findsFulfilling_2 : List UInt8 := dkwX2_findsFulfilling_2 ++ dktX2_findsFulfilling_3
def dkwX2_findsFulfilling_1 : List UInt8 := [162, 0, 95, 9, 55, 5, 3, 54, 7, 21, 7, 42, 180, 0, 7, 16, 45, 29, 104, 3, 96, 46]
abbrev dktX2_findsFulfilling_1 : List UInt8 := dkwX2_findsFulfilling_1 ++ dktX2_findsFulfilling_2
def dkwX2_findsFulfilling_0 : List UInt8 := [3, 61, 28, 5, 162, 0, 121, 5, 27, 104, 28, 96, 62, 3, 54, 4, 21, 4, 42, 180, 0, 35, 3, 46]
abbrev dktX2_findsFulfilling_0 : List UInt8 := dkwX2_findsFulfilling_0 ++ dktX2_findsFulfilling_1
theorem dksX2_findsFulfilling_0 : cX2_findsFulfilling.data.toList.drop 0 = dktX2_findsFulfilling_0 := by decide +kernel
theorem dksX2_findsFulfilling_1 : cX2_findsFulfilling.data.toList.drop 24 = dktX2_findsFulfilling_1 := dk_seg dksX2_findsFulfilling_0 24 rfl rfl
theorem dksX2_findsFulfilling_2 : cX2_findsFulfilling.data.toList.drop 46 = dktX2_findsFulfilling_2 := dk_seg dksX2_findsFulfilling_1 22 rfl rfl
theorem dksX2_findsFulfilling_3 : cX2_findsFulfilling.data.toList.drop 68 = dktX2_findsFulfilling_3 := dk_seg dksX2_findsFulfilling_2 22 rfl rfl
theorem dksX2_findsFulfilling_4 : cX2_findsFulfilling.data.toList.drop 91 = dktX2_findsFulfilling_4 := dk_seg dksX2_findsFulfilling_3 23 rfl rfl
theorem dksX2_findsFulfilling_5 : cX2_findsFulfilling.data.toList.drop 113 = dktX2_findsFulfilling_5 := dk_seg dksX2_findsFulfilling_4 22 rfl rfl
theorem dX2_findsFulfilling_0 : decode cX2_findsFulfilling 0 = .ok (.iconst 0, 1) := dk_3 (dk_at dksX2_findsFulfilling_0 0 rfl rfl)
theorem dX2_findsFulfilling_1 : decode cX2_findsFulfilling 1 = .ok (.istore_n 2, 1) := dk_61 (dk_at dksX2_findsFulfilling_0 1 rfl rfl)
theorem dX2_findsFulfilling_2 : decode cX2_findsFulfilling 2 = .ok (.iload_n 2, 1) := dk_28 (dk_at dksX2_findsFulfilling_0 2 rfl rfl)
theorem dX2_findsFulfilling_3 : decode cX2_findsFulfilling 3 = .ok (.iconst 2, 1) := dk_5 (dk_at dksX2_findsFulfilling_0 3 rfl rfl)
theorem dX2_findsFulfilling_4 : decode cX2_findsFulfilling 4 = .ok (.if_icmp .ge 121, 3) := dk_162 0 121 (dk_at dksX2_findsFulfilling_0 4 rfl rfl)
theorem dX2_findsFulfilling_7 : decode cX2_findsFulfilling 7 = .ok (.iconst 2, 1) := dk_5 (dk_at dksX2_findsFulfilling_0 7 rfl rfl)
theorem dX2_findsFulfilling_8 : decode cX2_findsFulfilling 8 = .ok (.iload_n 1, 1) := dk_27 (dk_at dksX2_findsFulfilling_0 8 rfl rfl)
theorem dX2_findsFulfilling_9 : decode cX2_findsFulfilling 9 = .ok (.imul, 1) := dk_104 (dk_at dksX2_findsFulfilling_0 9 rfl rfl)
theorem dX2_findsFulfilling_10 : decode cX2_findsFulfilling 10 = .ok (.iload_n 2, 1) := dk_28 (dk_at dksX2_findsFulfilling_0 10 rfl rfl)
theorem dX2_findsFulfilling_11 : decode cX2_findsFulfilling 11 = .ok (.iadd, 1) := dk_96 (dk_at dksX2_findsFulfilling_0 11 rfl rfl)
theorem dX2_findsFulfilling_12 : decode cX2_findsFulfilling 12 = .ok (.istore_n 3, 1) := dk_62 (dk_at dksX2_findsFulfilling_0 12 rfl rfl)
theorem dX2_findsFulfilling_13 : decode cX2_findsFulfilling 13 = .ok (.iconst 0, 1) := dk_3 (dk_at dksX2_findsFulfilling_0 13 rfl rfl)
theorem dX2_findsFulfilling_14 : decode cX2_findsFulfilling 14 = .ok (.istore 4, 2) := dk_54 4 (dk_at dksX2_findsFulfilling_0 14 rfl rfl)
theorem dX2_findsFulfilling_16 : decode cX2_findsFulfilling 16 = .ok (.iload 4, 2) := dk_21 4 (dk_at dksX2_findsFulfilling_0 16 rfl rfl)
theorem dX2_findsFulfilling_18 : decode cX2_findsFulfilling 18 = .ok (.aload_n 0, 1) := dk_42 (dk_at dksX2_findsFulfilling_0 18 rfl rfl)
theorem dX2_findsFulfilling_19 : decode cX2_findsFulfilling 19 = .ok (.getfield 35, 3) := dk_180 0 35 (dk_at dksX2_findsFulfilling_0 19 rfl rfl)
theorem dX2_findsFulfilling_22 : decode cX2_findsFulfilling 22 = .ok (.iconst 0, 1) := dk_3 (dk_at dksX2_findsFulfilling_0 22 rfl rfl)
theorem dX2_findsFulfilling_23 : decode cX2_findsFulfilling 23 = .ok (.iaload, 1) := dk_46 (dk_at dksX2_findsFulfilling_0 23 rfl rfl)
theorem dX2_findsFulfilling_24 : decode cX2_findsFulfilling 24 = .ok (.if_icmp .ge 95, 3) := dk_162 0 95 (dk_at dksX2_findsFulfilling_1 0 rfl rfl)
theorem dX2_findsFulfilling_27 : decode cX2_findsFulfilling 27 = .ok (.lconst 0, 1) := dk_9 (dk_at dksX2_findsFulfilling_1 3 rfl rfl)
theorem dX2_findsFulfilling_28 : decode cX2_findsFulfilling 28 = .ok (.lstore 5, 2) := dk_55 5 (dk_at dksX2_findsFulfilling_1 4 rfl rfl)
theorem dX2_findsFulfilling_30 : decode cX2_findsFulfilling 30 = .ok (.iconst 0, 1) := dk_3 (dk_at dksX2_findsFulfilling_1 6 rfl rfl)
theorem dX2_findsFulfilling_31 : decode cX2_findsFulfilling 31 = .ok (.istore 7, 2) := dk_54 7 (dk_at dksX2_findsFulfilling_1 7 rfl rfl)
theorem dX2_findsFulfilling_33 : decode cX2_findsFulfilling 33 = .ok (.iload 7, 2) := dk_21 7 (dk_at dksX2_findsFulfilling_1 9 rfl rfl)
theorem dX2_findsFulfilling_35 : decode cX2_findsFulfilling 35 = .ok (.aload_n 0, 1) := dk_42 (dk_at dksX2_findsFulfilling_1 11 rfl rfl)
theorem dX2_findsFulfilling_36 : decode cX2_findsFulfilling 36 = .ok (.getfield 7, 3) := dk_180 0 7 (dk_at dksX2_findsFulfilling_1 12 rfl rfl)
theorem dX2_findsFulfilling_39 : decode cX2_findsFulfilling 39 = .ok (.bipush 45, 2) := dk_16 45 (dk_at dksX2_findsFulfilling_1 15 rfl rfl)
theorem dX2_findsFulfilling_41 : decode cX2_findsFulfilling 41 = .ok (.iload_n 3, 1) := dk_29 (dk_at dksX2_findsFulfilling_1 17 rfl rfl)
theorem dX2_findsFulfilling_42 : decode cX2_findsFulfilling 42 = .ok (.imul, 1) := dk_104 (dk_at dksX2_findsFulfilling_1 18 rfl rfl)
theorem dX2_findsFulfilling_43 : decode cX2_findsFulfilling 43 = .ok (.iconst 0, 1) := dk_3 (dk_at dksX2_findsFulfilling_1 19 rfl rfl)
theorem dX2_findsFulfilling_44 : decode cX2_findsFulfilling 44 = .ok (.iadd, 1) := dk_96 (dk_at dksX2_findsFulfilling_1 20 rfl rfl)
theorem dX2_findsFulfilling_45 : decode cX2_findsFulfilling 45 = .ok (.iaload, 1) := dk_46 (dk_at dksX2_findsFulfilling_1 21 rfl rfl)
theorem dX2_findsFulfilling_46 : decode cX2_findsFulfilling 46 = .ok (.if_icmp .ge 53, 3) := dk_162 0 53 (dk_at dksX2_findsFulfilling_2 0 rfl rfl)
theorem dX2_findsFulfilling_49 : decode cX2_findsFulfilling 49 = .ok (.lload 5, 2) := dk_22 5 (dk_at dksX2_findsFulfilling_2 3 rfl rfl)
theorem dX2_findsFulfilling_51 : decode cX2_findsFulfilling 51 = .ok (.aload_n 0, 1) := dk_42 (dk_at dksX2_findsFulfilling_2 5 rfl rfl)
theorem dX2_findsFulfilling_52 : decode cX2_findsFulfilling 52 = .ok (.iload_n 3, 1) := dk_29 (dk_at dksX2_findsFulfilling_2 6 rfl rfl)
theorem dX2_findsFulfilling_53 : decode cX2_findsFulfilling 53 = .ok (.aload_n 0, 1) := dk_42 (dk_at dksX2_findsFulfilling_2 7 rfl rfl)
theorem dX2_findsFulfilling_54 : decode cX2_findsFulfilling 54 = .ok (.getfield 7, 3) := dk_180 0 7 (dk_at dksX2_findsFulfilling_2 8 rfl rfl)
theorem dX2_findsFulfilling_57 : decode cX2_findsFulfilling 57 = .ok (.bipush 45, 2) := dk_16 45 (dk_at dksX2_findsFulfilling_2 11 rfl rfl)
theorem dX2_findsFulfilling_59 : decode cX2_findsFulfilling 59 = .ok (.iload_n 3, 1) := dk_29 (dk_at dksX2_findsFulfilling_2 13 rfl rfl)
theorem dX2_findsFulfilling_60 : decode cX2_findsFulfilling 60 = .ok (.imul, 1) := dk_104 (dk_at dksX2_findsFulfilling_2 14 rfl rfl)
theorem dX2_findsFulfilling_61 : decode cX2_findsFulfilling 61 = .ok (.iconst 5, 1) := dk_8 (dk_at dksX2_findsFulfilling_2 15 rfl rfl)
theorem dX2_findsFulfilling_62 : decode cX2_findsFulfilling 62 = .ok (.iadd, 1) := dk_96 (dk_at dksX2_findsFulfilling_2 16 rfl rfl)
theorem dX2_findsFulfilling_63 : decode cX2_findsFulfilling 63 = .ok (.iload 7, 2) := dk_21 7 (dk_at dksX2_findsFulfilling_2 17 rfl rfl)
theorem dX2_findsFulfilling_65 : decode cX2_findsFulfilling 65 = .ok (.iadd, 1) := dk_96 (dk_at dksX2_findsFulfilling_2 19 rfl rfl)
theorem dX2_findsFulfilling_66 : decode cX2_findsFulfilling 66 = .ok (.iaload, 1) := dk_46 (dk_at dksX2_findsFulfilling_2 20 rfl rfl)
theorem dX2_findsFulfilling_67 : decode cX2_findsFulfilling 67 = .ok (.aload_n 0, 1) := dk_42 (dk_at dksX2_findsFulfilling_2 21 rfl rfl)
theorem dX2_findsFulfilling_68 : decode cX2_findsFulfilling 68 = .ok (.getfield 35, 3) := dk_180 0 35 (dk_at dksX2_findsFulfilling_3 0 rfl rfl)
theorem dX2_findsFulfilling_71 : decode cX2_findsFulfilling 71 = .ok (.iconst 1, 1) := dk_4 (dk_at dksX2_findsFulfilling_3 3 rfl rfl)
theorem dX2_findsFulfilling_72 : decode cX2_findsFulfilling 72 = .ok (.iload 4, 2) := dk_21 4 (dk_at dksX2_findsFulfilling_3 4 rfl rfl)
theorem dX2_findsFulfilling_74 : decode cX2_findsFulfilling 74 = .ok (.iadd, 1) := dk_96 (dk_at dksX2_findsFulfilling_3 6 rfl rfl)
theorem dX2_findsFulfilling_75 : decode cX2_findsFulfilling 75 = .ok (.iaload, 1) := dk_46 (dk_at dksX2_findsFulfilling_3 7 rfl rfl)
theorem dX2_findsFulfilling_76 : decode cX2_findsFulfilling 76 = .ok (.invokevirtual 300, 3) := dk_182 1 44 (dk_at dksX2_findsFulfilling_3 8 rfl rfl)
theorem dX2_findsFulfilling_79 : decode cX2_findsFulfilling 79 = .ok (.ifCond .eq 10, 3) := dk_153 0 10 (dk_at dksX2_findsFulfilling_3 11 rfl rfl)
theorem dX2_findsFulfilling_82 : decode cX2_findsFulfilling 82 = .ok (.lconst 1, 1) := dk_10 (dk_at dksX2_findsFulfilling_3 14 rfl rfl)
theorem dX2_findsFulfilling_83 : decode cX2_findsFulfilling 83 = .ok (.iload 7, 2) := dk_21 7 (dk_at dksX2_findsFulfilling_3 15 rfl rfl)
theorem dX2_findsFulfilling_85 : decode cX2_findsFulfilling 85 = .ok (.lshl, 1) := dk_121 (dk_at dksX2_findsFulfilling_3 17 rfl rfl)
theorem dX2_findsFulfilling_86 : decode cX2_findsFulfilling 86 = .ok (.goto 4, 3) := dk_167 0 4 (dk_at dksX2_findsFulfilling_3 18 rfl rfl)
theorem dX2_findsFulfilling_89 : decode cX2_findsFulfilling 89 = .ok (.lconst 0, 1) := dk_9 (dk_at dksX2_findsFulfilling_3 21 rfl rfl)
theorem dX2_findsFulfilling_90 : decode cX2_findsFulfilling 90 = .ok (.lor, 1) := dk_129 (dk_at dksX2_findsFulfilling_3 22 rfl rfl)
theorem dX2_findsFulfilling_91 : decode cX2_findsFulfilling 91 = .ok (.lstore 5, 2) := dk_55 5 (dk_at dksX2_findsFulfilling_4 0 rfl rfl)
theorem dX2_findsFulfilling_93 : decode cX2_findsFulfilling 93 = .ok (.iinc 7 1, 3) := dk_132 7 1 (dk_at dksX2_findsFulfilling_4 2 rfl rfl)
theorem dX2_findsFulfilling_96 : decode cX2_findsFulfilling 96 = .ok (.goto (-63), 3) := dk_167 255 193 (dk_at dksX2_findsFulfilling_4 5 rfl rfl)
theorem dX2_findsFulfilling_99 : decode cX2_findsFulfilling 99 = .ok (.aload_n 0, 1) := dk_42 (dk_at dksX2_findsFulfilling_4 8 rfl rfl)
theorem dX2_findsFulfilling_100 : decode cX2_findsFulfilling 100 = .ok (.getfield 105, 3) := dk_180 0 105 (dk_at dksX2_findsFulfilling_4 9 rfl rfl)
theorem dX2_findsFulfilling_103 : decode cX2_findsFulfilling 103 = .ok (.bipush 48, 2) := dk_16 48 (dk_at dksX2_findsFulfilling_4 12 rfl rfl)
theorem dX2_findsFulfilling_105 : decode cX2_findsFulfilling 105 = .ok (.iload_n 2, 1) := dk_28 (dk_at dksX2_findsFulfilling_4 14 rfl rfl)
theorem dX2_findsFulfilling_106 : decode cX2_findsFulfilling 106 = .ok (.imul, 1) := dk_104 (dk_at dksX2_findsFulfilling_4 15 rfl rfl)
theorem dX2_findsFulfilling_107 : decode cX2_findsFulfilling 107 = .ok (.iload 4, 2) := dk_21 4 (dk_at dksX2_findsFulfilling_4 16 rfl rfl)
theorem dX2_findsFulfilling_109 : decode cX2_findsFulfilling 109 = .ok (.iadd, 1) := dk_96 (dk_at dksX2_findsFulfilling_4 18 rfl rfl)
theorem dX2_findsFulfilling_110 : decode cX2_findsFulfilling 110 = .ok (.lload 5, 2) := dk_22 5 (dk_at dksX2_findsFulfilling_4 19 rfl rfl)
theorem dX2_findsFulfilling_112 : decode cX2_findsFulfilling 112 = .ok (.lastore, 1) := dk_80 (dk_at dksX2_findsFulfilling_4 21 rfl rfl)
theorem dX2_findsFulfilling_113 : decode cX2_findsFulfilling 113 = .ok (.iinc 4 1, 3) := dk_132 4 1 (dk_at dksX2_findsFulfilling_5 0 rfl rfl)
theorem dX2_findsFulfilling_116 : decode cX2_findsFulfilling 116 = .ok (.goto (-100), 3) := dk_167 255 156 (dk_at dksX2_findsFulfilling_5 3 rfl rfl)
theorem dX2_findsFulfilling_119 : decode cX2_findsFulfilling 119 = .ok (.iinc 2 1, 3) := dk_132 2 1 (dk_at dksX2_findsFulfilling_5 6 rfl rfl)
theorem dX2_findsFulfilling_122 : decode cX2_findsFulfilling 122 = .ok (.goto (-120), 3) := dk_167 255 136 (dk_at dksX2_findsFulfilling_5 9 rfl rfl)
theorem dX2_findsFulfilling_125 : decode cX2_findsFulfilling 125 = .ok (.return_, 1) := dk_177 (dk_at dksX2_findsFulfilling_5 12 rfl rfl)
abbrev cX2_firstOf : ByteArray := prog_21_method_48_code
def yX2_firstOf : MethodName := ⟨RX2, "firstOf", "(I)J"⟩
def dkwX2_firstOf_0 : List UInt8 := [42, 180, 0, 16, 17, 0, 203, 27, 104, 3, 96, 47, 173]
abbrev dktX2_firstOf_0 : List UInt8 := dkwX2_firstOf_0 ++ []
theorem dksX2_firstOf_0 : cX2_firstOf.data.toList.drop 0 = dktX2_firstOf_0 := by decide +kernel
theorem dX2_firstOf_0 : decode cX2_firstOf 0 = .ok (.aload_n 0, 1) := dk_42 (dk_at dksX2_firstOf_0 0 rfl rfl)
theorem dX2_firstOf_1 : decode cX2_firstOf 1 = .ok (.getfield 16, 3) := dk_180 0 16 (dk_at dksX2_firstOf_0 1 rfl rfl)
theorem dX2_firstOf_4 : decode cX2_firstOf 4 = .ok (.sipush 203, 3) := dk_17 0 203 (dk_at dksX2_firstOf_0 4 rfl rfl)
theorem dX2_firstOf_7 : decode cX2_firstOf 7 = .ok (.iload_n 1, 1) := dk_27 (dk_at dksX2_firstOf_0 7 rfl rfl)
theorem dX2_firstOf_8 : decode cX2_firstOf 8 = .ok (.imul, 1) := dk_104 (dk_at dksX2_firstOf_0 8 rfl rfl)
theorem dX2_firstOf_9 : decode cX2_firstOf 9 = .ok (.iconst 0, 1) := dk_3 (dk_at dksX2_firstOf_0 9 rfl rfl)
theorem dX2_firstOf_10 : decode cX2_firstOf 10 = .ok (.iadd, 1) := dk_96 (dk_at dksX2_firstOf_0 10 rfl rfl)
theorem dX2_firstOf_11 : decode cX2_firstOf 11 = .ok (.laload, 1) := dk_47 (dk_at dksX2_firstOf_0 11 rfl rfl)
theorem dX2_firstOf_12 : decode cX2_firstOf 12 = .ok (.lreturn, 1) := dk_173 (dk_at dksX2_firstOf_0 12 rfl rfl)
abbrev cX2_nextOf : ByteArray := prog_21_method_47_code
def yX2_nextOf : MethodName := ⟨RX2, "nextOf", "(IJ)J"⟩
def dkwX2_nextOf_2 : List UInt8 := [96, 47, 167, 0, 4, 9, 129, 55, 4, 132, 6, 1, 167, 255, 202, 22, 4, 173]
abbrev dktX2_nextOf_2 : List UInt8 := dkwX2_nextOf_2 ++ []
def dkwX2_nextOf_1 : List UInt8 := [32, 21, 6, 123, 10, 127, 10, 148, 154, 0, 21, 42, 180, 0, 16, 17, 0, 203, 27, 104, 6, 96, 21, 6]
abbrev dktX2_nextOf_1 : List UInt8 := dkwX2_nextOf_1 ++ dktX2_nextOf_2
def dkwX2_nextOf_0 : List UInt8 := [9, 55, 4, 3, 54, 6, 21, 6, 42, 180, 0, 7, 16, 45, 27, 104, 3, 96, 46, 162, 0, 44, 22, 4]
abbrev dktX2_nextOf_0 : List UInt8 := dkwX2_nextOf_0 ++ dktX2_nextOf_1
theorem dksX2_nextOf_0 : cX2_nextOf.data.toList.drop 0 = dktX2_nextOf_0 := by decide +kernel
theorem dksX2_nextOf_1 : cX2_nextOf.data.toList.drop 24 = dktX2_nextOf_1 := dk_seg dksX2_nextOf_0 24 rfl rfl
theorem dksX2_nextOf_2 : cX2_nextOf.data.toList.drop 48 = dktX2_nextOf_2 := dk_seg dksX2_nextOf_1 24 rfl rfl
theorem dX2_nextOf_0 : decode cX2_nextOf 0 = .ok (.lconst 0, 1) := dk_9 (dk_at dksX2_nextOf_0 0 rfl rfl)
theorem dX2_nextOf_1 : decode cX2_nextOf 1 = .ok (.lstore 4, 2) := dk_55 4 (dk_at dksX2_nextOf_0 1 rfl rfl)
theorem dX2_nextOf_3 : decode cX2_nextOf 3 = .ok (.iconst 0, 1) := dk_3 (dk_at dksX2_nextOf_0 3 rfl rfl)
theorem dX2_nextOf_4 : decode cX2_nextOf 4 = .ok (.istore 6, 2) := dk_54 6 (dk_at dksX2_nextOf_0 4 rfl rfl)
theorem dX2_nextOf_6 : decode cX2_nextOf 6 = .ok (.iload 6, 2) := dk_21 6 (dk_at dksX2_nextOf_0 6 rfl rfl)
theorem dX2_nextOf_8 : decode cX2_nextOf 8 = .ok (.aload_n 0, 1) := dk_42 (dk_at dksX2_nextOf_0 8 rfl rfl)
theorem dX2_nextOf_9 : decode cX2_nextOf 9 = .ok (.getfield 7, 3) := dk_180 0 7 (dk_at dksX2_nextOf_0 9 rfl rfl)
theorem dX2_nextOf_12 : decode cX2_nextOf 12 = .ok (.bipush 45, 2) := dk_16 45 (dk_at dksX2_nextOf_0 12 rfl rfl)
theorem dX2_nextOf_14 : decode cX2_nextOf 14 = .ok (.iload_n 1, 1) := dk_27 (dk_at dksX2_nextOf_0 14 rfl rfl)
theorem dX2_nextOf_15 : decode cX2_nextOf 15 = .ok (.imul, 1) := dk_104 (dk_at dksX2_nextOf_0 15 rfl rfl)
theorem dX2_nextOf_16 : decode cX2_nextOf 16 = .ok (.iconst 0, 1) := dk_3 (dk_at dksX2_nextOf_0 16 rfl rfl)
theorem dX2_nextOf_17 : decode cX2_nextOf 17 = .ok (.iadd, 1) := dk_96 (dk_at dksX2_nextOf_0 17 rfl rfl)
theorem dX2_nextOf_18 : decode cX2_nextOf 18 = .ok (.iaload, 1) := dk_46 (dk_at dksX2_nextOf_0 18 rfl rfl)
theorem dX2_nextOf_19 : decode cX2_nextOf 19 = .ok (.if_icmp .ge 44, 3) := dk_162 0 44 (dk_at dksX2_nextOf_0 19 rfl rfl)
theorem dX2_nextOf_22 : decode cX2_nextOf 22 = .ok (.lload 4, 2) := dk_22 4 (dk_at dksX2_nextOf_0 22 rfl rfl)
theorem dX2_nextOf_24 : decode cX2_nextOf 24 = .ok (.lload_n 2, 1) := dk_32 (dk_at dksX2_nextOf_1 0 rfl rfl)
theorem dX2_nextOf_25 : decode cX2_nextOf 25 = .ok (.iload 6, 2) := dk_21 6 (dk_at dksX2_nextOf_1 1 rfl rfl)
theorem dX2_nextOf_27 : decode cX2_nextOf 27 = .ok (.lshr, 1) := dk_123 (dk_at dksX2_nextOf_1 3 rfl rfl)
theorem dX2_nextOf_28 : decode cX2_nextOf 28 = .ok (.lconst 1, 1) := dk_10 (dk_at dksX2_nextOf_1 4 rfl rfl)
theorem dX2_nextOf_29 : decode cX2_nextOf 29 = .ok (.land, 1) := dk_127 (dk_at dksX2_nextOf_1 5 rfl rfl)
theorem dX2_nextOf_30 : decode cX2_nextOf 30 = .ok (.lconst 1, 1) := dk_10 (dk_at dksX2_nextOf_1 6 rfl rfl)
theorem dX2_nextOf_31 : decode cX2_nextOf 31 = .ok (.lcmp, 1) := dk_148 (dk_at dksX2_nextOf_1 7 rfl rfl)
theorem dX2_nextOf_32 : decode cX2_nextOf 32 = .ok (.ifCond .ne 21, 3) := dk_154 0 21 (dk_at dksX2_nextOf_1 8 rfl rfl)
theorem dX2_nextOf_35 : decode cX2_nextOf 35 = .ok (.aload_n 0, 1) := dk_42 (dk_at dksX2_nextOf_1 11 rfl rfl)
theorem dX2_nextOf_36 : decode cX2_nextOf 36 = .ok (.getfield 16, 3) := dk_180 0 16 (dk_at dksX2_nextOf_1 12 rfl rfl)
theorem dX2_nextOf_39 : decode cX2_nextOf 39 = .ok (.sipush 203, 3) := dk_17 0 203 (dk_at dksX2_nextOf_1 15 rfl rfl)
theorem dX2_nextOf_42 : decode cX2_nextOf 42 = .ok (.iload_n 1, 1) := dk_27 (dk_at dksX2_nextOf_1 18 rfl rfl)
theorem dX2_nextOf_43 : decode cX2_nextOf 43 = .ok (.imul, 1) := dk_104 (dk_at dksX2_nextOf_1 19 rfl rfl)
theorem dX2_nextOf_44 : decode cX2_nextOf 44 = .ok (.iconst 3, 1) := dk_6 (dk_at dksX2_nextOf_1 20 rfl rfl)
theorem dX2_nextOf_45 : decode cX2_nextOf 45 = .ok (.iadd, 1) := dk_96 (dk_at dksX2_nextOf_1 21 rfl rfl)
theorem dX2_nextOf_46 : decode cX2_nextOf 46 = .ok (.iload 6, 2) := dk_21 6 (dk_at dksX2_nextOf_1 22 rfl rfl)
theorem dX2_nextOf_48 : decode cX2_nextOf 48 = .ok (.iadd, 1) := dk_96 (dk_at dksX2_nextOf_2 0 rfl rfl)
theorem dX2_nextOf_49 : decode cX2_nextOf 49 = .ok (.laload, 1) := dk_47 (dk_at dksX2_nextOf_2 1 rfl rfl)
theorem dX2_nextOf_50 : decode cX2_nextOf 50 = .ok (.goto 4, 3) := dk_167 0 4 (dk_at dksX2_nextOf_2 2 rfl rfl)
theorem dX2_nextOf_53 : decode cX2_nextOf 53 = .ok (.lconst 0, 1) := dk_9 (dk_at dksX2_nextOf_2 5 rfl rfl)
theorem dX2_nextOf_54 : decode cX2_nextOf 54 = .ok (.lor, 1) := dk_129 (dk_at dksX2_nextOf_2 6 rfl rfl)
theorem dX2_nextOf_55 : decode cX2_nextOf 55 = .ok (.lstore 4, 2) := dk_55 4 (dk_at dksX2_nextOf_2 7 rfl rfl)
theorem dX2_nextOf_57 : decode cX2_nextOf 57 = .ok (.iinc 6 1, 3) := dk_132 6 1 (dk_at dksX2_nextOf_2 9 rfl rfl)
theorem dX2_nextOf_60 : decode cX2_nextOf 60 = .ok (.goto (-54), 3) := dk_167 255 202 (dk_at dksX2_nextOf_2 12 rfl rfl)
theorem dX2_nextOf_63 : decode cX2_nextOf 63 = .ok (.lload 4, 2) := dk_22 4 (dk_at dksX2_nextOf_2 15 rfl rfl)
theorem dX2_nextOf_65 : decode cX2_nextOf 65 = .ok (.lreturn, 1) := dk_173 (dk_at dksX2_nextOf_2 17 rfl rfl)
abbrev cX2_isEnd : ByteArray := prog_21_method_49_code
def yX2_isEnd : MethodName := ⟨RX2, "isEnd", "(IJ)Z"⟩
def dkwX2_isEnd_1 : List UInt8 := [172]
abbrev dktX2_isEnd_1 : List UInt8 := dkwX2_isEnd_1 ++ []
def dkwX2_isEnd_0 : List UInt8 := [32, 42, 180, 0, 16, 17, 0, 203, 27, 104, 4, 96, 47, 127, 9, 148, 153, 0, 7, 4, 167, 0, 4, 3]
abbrev dktX2_isEnd_0 : List UInt8 := dkwX2_isEnd_0 ++ dktX2_isEnd_1
theorem dksX2_isEnd_0 : cX2_isEnd.data.toList.drop 0 = dktX2_isEnd_0 := by decide +kernel
theorem dksX2_isEnd_1 : cX2_isEnd.data.toList.drop 24 = dktX2_isEnd_1 := dk_seg dksX2_isEnd_0 24 rfl rfl
theorem dX2_isEnd_0 : decode cX2_isEnd 0 = .ok (.lload_n 2, 1) := dk_32 (dk_at dksX2_isEnd_0 0 rfl rfl)
theorem dX2_isEnd_1 : decode cX2_isEnd 1 = .ok (.aload_n 0, 1) := dk_42 (dk_at dksX2_isEnd_0 1 rfl rfl)
theorem dX2_isEnd_2 : decode cX2_isEnd 2 = .ok (.getfield 16, 3) := dk_180 0 16 (dk_at dksX2_isEnd_0 2 rfl rfl)
theorem dX2_isEnd_5 : decode cX2_isEnd 5 = .ok (.sipush 203, 3) := dk_17 0 203 (dk_at dksX2_isEnd_0 5 rfl rfl)
theorem dX2_isEnd_8 : decode cX2_isEnd 8 = .ok (.iload_n 1, 1) := dk_27 (dk_at dksX2_isEnd_0 8 rfl rfl)
theorem dX2_isEnd_9 : decode cX2_isEnd 9 = .ok (.imul, 1) := dk_104 (dk_at dksX2_isEnd_0 9 rfl rfl)
theorem dX2_isEnd_10 : decode cX2_isEnd 10 = .ok (.iconst 1, 1) := dk_4 (dk_at dksX2_isEnd_0 10 rfl rfl)
theorem dX2_isEnd_11 : decode cX2_isEnd 11 = .ok (.iadd, 1) := dk_96 (dk_at dksX2_isEnd_0 11 rfl rfl)
theorem dX2_isEnd_12 : decode cX2_isEnd 12 = .ok (.laload, 1) := dk_47 (dk_at dksX2_isEnd_0 12 rfl rfl)
theorem dX2_isEnd_13 : decode cX2_isEnd 13 = .ok (.land, 1) := dk_127 (dk_at dksX2_isEnd_0 13 rfl rfl)
theorem dX2_isEnd_14 : decode cX2_isEnd 14 = .ok (.lconst 0, 1) := dk_9 (dk_at dksX2_isEnd_0 14 rfl rfl)
theorem dX2_isEnd_15 : decode cX2_isEnd 15 = .ok (.lcmp, 1) := dk_148 (dk_at dksX2_isEnd_0 15 rfl rfl)
theorem dX2_isEnd_16 : decode cX2_isEnd 16 = .ok (.ifCond .eq 7, 3) := dk_153 0 7 (dk_at dksX2_isEnd_0 16 rfl rfl)
theorem dX2_isEnd_19 : decode cX2_isEnd 19 = .ok (.iconst 1, 1) := dk_4 (dk_at dksX2_isEnd_0 19 rfl rfl)
theorem dX2_isEnd_20 : decode cX2_isEnd 20 = .ok (.goto 4, 3) := dk_167 0 4 (dk_at dksX2_isEnd_0 20 rfl rfl)
theorem dX2_isEnd_23 : decode cX2_isEnd 23 = .ok (.iconst 0, 1) := dk_3 (dk_at dksX2_isEnd_0 23 rfl rfl)
theorem dX2_isEnd_24 : decode cX2_isEnd 24 = .ok (.ireturn, 1) := dk_172 (dk_at dksX2_isEnd_1 0 rfl rfl)
abbrev cX2_might : ByteArray := prog_21_method_55_code
def yX2_might : MethodName := ⟨RX2, "might", "(III)I"⟩
def dkwX2_might_4 : List UInt8 := [42, 5, 27, 104, 28, 96, 22, 4, 182, 1, 84, 184, 0, 194, 172]
abbrev dktX2_might_4 : List UInt8 := dkwX2_might_4 ++ []
def dkwX2_might_3 : List UInt8 := [42, 180, 0, 105, 16, 48, 28, 104, 21, 6, 96, 47, 127, 182, 1, 76, 55, 4, 132, 6, 1, 167, 255, 216]
abbrev dktX2_might_3 : List UInt8 := dkwX2_might_3 ++ dktX2_might_4
def dkwX2_might_2 : List UInt8 := [55, 4, 29, 54, 6, 21, 6, 42, 180, 0, 35, 3, 46, 162, 0, 35, 42, 5, 27, 104, 28, 96, 22, 4]
abbrev dktX2_might_2 : List UInt8 := dkwX2_might_2 ++ dktX2_might_3
def dkwX2_might_1 : List UInt8 := [133, 184, 0, 131, 154, 0, 5, 2, 172, 42, 27, 182, 1, 69, 42, 5, 27, 104, 28, 96, 182, 1, 72]
abbrev dktX2_might_1 : List UInt8 := dkwX2_might_1 ++ dktX2_might_2
def dkwX2_might_0 : List UInt8 := [42, 27, 182, 1, 48, 153, 0, 26, 28, 184, 1, 66, 153, 0, 19, 29, 133, 9, 42, 180, 0, 35, 3, 46]
abbrev dktX2_might_0 : List UInt8 := dkwX2_might_0 ++ dktX2_might_1
theorem dksX2_might_0 : cX2_might.data.toList.drop 0 = dktX2_might_0 := by decide +kernel
theorem dksX2_might_1 : cX2_might.data.toList.drop 24 = dktX2_might_1 := dk_seg dksX2_might_0 24 rfl rfl
theorem dksX2_might_2 : cX2_might.data.toList.drop 47 = dktX2_might_2 := dk_seg dksX2_might_1 23 rfl rfl
theorem dksX2_might_3 : cX2_might.data.toList.drop 71 = dktX2_might_3 := dk_seg dksX2_might_2 24 rfl rfl
theorem dksX2_might_4 : cX2_might.data.toList.drop 95 = dktX2_might_4 := dk_seg dksX2_might_3 24 rfl rfl
theorem dX2_might_0 : decode cX2_might 0 = .ok (.aload_n 0, 1) := dk_42 (dk_at dksX2_might_0 0 rfl rfl)
theorem dX2_might_1 : decode cX2_might 1 = .ok (.iload_n 1, 1) := dk_27 (dk_at dksX2_might_0 1 rfl rfl)
theorem dX2_might_2 : decode cX2_might 2 = .ok (.invokevirtual 304, 3) := dk_182 1 48 (dk_at dksX2_might_0 2 rfl rfl)
theorem dX2_might_5 : decode cX2_might 5 = .ok (.ifCond .eq 26, 3) := dk_153 0 26 (dk_at dksX2_might_0 5 rfl rfl)
theorem dX2_might_8 : decode cX2_might 8 = .ok (.iload_n 2, 1) := dk_28 (dk_at dksX2_might_0 8 rfl rfl)
theorem dX2_might_9 : decode cX2_might 9 = .ok (.invokestatic 322, 3) := dk_184 1 66 (dk_at dksX2_might_0 9 rfl rfl)
theorem dX2_might_12 : decode cX2_might 12 = .ok (.ifCond .eq 19, 3) := dk_153 0 19 (dk_at dksX2_might_0 12 rfl rfl)
theorem dX2_might_15 : decode cX2_might 15 = .ok (.iload_n 3, 1) := dk_29 (dk_at dksX2_might_0 15 rfl rfl)
theorem dX2_might_16 : decode cX2_might 16 = .ok (.i2l, 1) := dk_133 (dk_at dksX2_might_0 16 rfl rfl)
theorem dX2_might_17 : decode cX2_might 17 = .ok (.lconst 0, 1) := dk_9 (dk_at dksX2_might_0 17 rfl rfl)
theorem dX2_might_18 : decode cX2_might 18 = .ok (.aload_n 0, 1) := dk_42 (dk_at dksX2_might_0 18 rfl rfl)
theorem dX2_might_19 : decode cX2_might 19 = .ok (.getfield 35, 3) := dk_180 0 35 (dk_at dksX2_might_0 19 rfl rfl)
theorem dX2_might_22 : decode cX2_might 22 = .ok (.iconst 0, 1) := dk_3 (dk_at dksX2_might_0 22 rfl rfl)
theorem dX2_might_23 : decode cX2_might 23 = .ok (.iaload, 1) := dk_46 (dk_at dksX2_might_0 23 rfl rfl)
theorem dX2_might_24 : decode cX2_might 24 = .ok (.i2l, 1) := dk_133 (dk_at dksX2_might_1 0 rfl rfl)
theorem dX2_might_25 : decode cX2_might 25 = .ok (.invokestatic 131, 3) := dk_184 0 131 (dk_at dksX2_might_1 1 rfl rfl)
theorem dX2_might_28 : decode cX2_might 28 = .ok (.ifCond .ne 5, 3) := dk_154 0 5 (dk_at dksX2_might_1 4 rfl rfl)
theorem dX2_might_31 : decode cX2_might 31 = .ok (.iconst (-1), 1) := dk_2 (dk_at dksX2_might_1 7 rfl rfl)
theorem dX2_might_32 : decode cX2_might 32 = .ok (.ireturn, 1) := dk_172 (dk_at dksX2_might_1 8 rfl rfl)
theorem dX2_might_33 : decode cX2_might 33 = .ok (.aload_n 0, 1) := dk_42 (dk_at dksX2_might_1 9 rfl rfl)
theorem dX2_might_34 : decode cX2_might 34 = .ok (.iload_n 1, 1) := dk_27 (dk_at dksX2_might_1 10 rfl rfl)
theorem dX2_might_35 : decode cX2_might 35 = .ok (.invokevirtual 325, 3) := dk_182 1 69 (dk_at dksX2_might_1 11 rfl rfl)
theorem dX2_might_38 : decode cX2_might 38 = .ok (.aload_n 0, 1) := dk_42 (dk_at dksX2_might_1 14 rfl rfl)
theorem dX2_might_39 : decode cX2_might 39 = .ok (.iconst 2, 1) := dk_5 (dk_at dksX2_might_1 15 rfl rfl)
theorem dX2_might_40 : decode cX2_might 40 = .ok (.iload_n 1, 1) := dk_27 (dk_at dksX2_might_1 16 rfl rfl)
theorem dX2_might_41 : decode cX2_might 41 = .ok (.imul, 1) := dk_104 (dk_at dksX2_might_1 17 rfl rfl)
theorem dX2_might_42 : decode cX2_might 42 = .ok (.iload_n 2, 1) := dk_28 (dk_at dksX2_might_1 18 rfl rfl)
theorem dX2_might_43 : decode cX2_might 43 = .ok (.iadd, 1) := dk_96 (dk_at dksX2_might_1 19 rfl rfl)
theorem dX2_might_44 : decode cX2_might 44 = .ok (.invokevirtual 328, 3) := dk_182 1 72 (dk_at dksX2_might_1 20 rfl rfl)
theorem dX2_might_47 : decode cX2_might 47 = .ok (.lstore 4, 2) := dk_55 4 (dk_at dksX2_might_2 0 rfl rfl)
theorem dX2_might_49 : decode cX2_might 49 = .ok (.iload_n 3, 1) := dk_29 (dk_at dksX2_might_2 2 rfl rfl)
theorem dX2_might_50 : decode cX2_might 50 = .ok (.istore 6, 2) := dk_54 6 (dk_at dksX2_might_2 3 rfl rfl)
theorem dX2_might_52 : decode cX2_might 52 = .ok (.iload 6, 2) := dk_21 6 (dk_at dksX2_might_2 5 rfl rfl)
theorem dX2_might_54 : decode cX2_might 54 = .ok (.aload_n 0, 1) := dk_42 (dk_at dksX2_might_2 7 rfl rfl)
theorem dX2_might_55 : decode cX2_might 55 = .ok (.getfield 35, 3) := dk_180 0 35 (dk_at dksX2_might_2 8 rfl rfl)
theorem dX2_might_58 : decode cX2_might 58 = .ok (.iconst 0, 1) := dk_3 (dk_at dksX2_might_2 11 rfl rfl)
theorem dX2_might_59 : decode cX2_might 59 = .ok (.iaload, 1) := dk_46 (dk_at dksX2_might_2 12 rfl rfl)
theorem dX2_might_60 : decode cX2_might 60 = .ok (.if_icmp .ge 35, 3) := dk_162 0 35 (dk_at dksX2_might_2 13 rfl rfl)
theorem dX2_might_63 : decode cX2_might 63 = .ok (.aload_n 0, 1) := dk_42 (dk_at dksX2_might_2 16 rfl rfl)
theorem dX2_might_64 : decode cX2_might 64 = .ok (.iconst 2, 1) := dk_5 (dk_at dksX2_might_2 17 rfl rfl)
theorem dX2_might_65 : decode cX2_might 65 = .ok (.iload_n 1, 1) := dk_27 (dk_at dksX2_might_2 18 rfl rfl)
theorem dX2_might_66 : decode cX2_might 66 = .ok (.imul, 1) := dk_104 (dk_at dksX2_might_2 19 rfl rfl)
theorem dX2_might_67 : decode cX2_might 67 = .ok (.iload_n 2, 1) := dk_28 (dk_at dksX2_might_2 20 rfl rfl)
theorem dX2_might_68 : decode cX2_might 68 = .ok (.iadd, 1) := dk_96 (dk_at dksX2_might_2 21 rfl rfl)
theorem dX2_might_69 : decode cX2_might 69 = .ok (.lload 4, 2) := dk_22 4 (dk_at dksX2_might_2 22 rfl rfl)
theorem dX2_might_71 : decode cX2_might 71 = .ok (.aload_n 0, 1) := dk_42 (dk_at dksX2_might_3 0 rfl rfl)
theorem dX2_might_72 : decode cX2_might 72 = .ok (.getfield 105, 3) := dk_180 0 105 (dk_at dksX2_might_3 1 rfl rfl)
theorem dX2_might_75 : decode cX2_might 75 = .ok (.bipush 48, 2) := dk_16 48 (dk_at dksX2_might_3 4 rfl rfl)
theorem dX2_might_77 : decode cX2_might 77 = .ok (.iload_n 2, 1) := dk_28 (dk_at dksX2_might_3 6 rfl rfl)
theorem dX2_might_78 : decode cX2_might 78 = .ok (.imul, 1) := dk_104 (dk_at dksX2_might_3 7 rfl rfl)
theorem dX2_might_79 : decode cX2_might 79 = .ok (.iload 6, 2) := dk_21 6 (dk_at dksX2_might_3 8 rfl rfl)
theorem dX2_might_81 : decode cX2_might 81 = .ok (.iadd, 1) := dk_96 (dk_at dksX2_might_3 10 rfl rfl)
theorem dX2_might_82 : decode cX2_might 82 = .ok (.laload, 1) := dk_47 (dk_at dksX2_might_3 11 rfl rfl)
theorem dX2_might_83 : decode cX2_might 83 = .ok (.land, 1) := dk_127 (dk_at dksX2_might_3 12 rfl rfl)
theorem dX2_might_84 : decode cX2_might 84 = .ok (.invokevirtual 332, 3) := dk_182 1 76 (dk_at dksX2_might_3 13 rfl rfl)
theorem dX2_might_87 : decode cX2_might 87 = .ok (.lstore 4, 2) := dk_55 4 (dk_at dksX2_might_3 16 rfl rfl)
theorem dX2_might_89 : decode cX2_might 89 = .ok (.iinc 6 1, 3) := dk_132 6 1 (dk_at dksX2_might_3 18 rfl rfl)
theorem dX2_might_92 : decode cX2_might 92 = .ok (.goto (-40), 3) := dk_167 255 216 (dk_at dksX2_might_3 21 rfl rfl)
theorem dX2_might_95 : decode cX2_might 95 = .ok (.aload_n 0, 1) := dk_42 (dk_at dksX2_might_4 0 rfl rfl)
theorem dX2_might_96 : decode cX2_might 96 = .ok (.iconst 2, 1) := dk_5 (dk_at dksX2_might_4 1 rfl rfl)
theorem dX2_might_97 : decode cX2_might 97 = .ok (.iload_n 1, 1) := dk_27 (dk_at dksX2_might_4 2 rfl rfl)
theorem dX2_might_98 : decode cX2_might 98 = .ok (.imul, 1) := dk_104 (dk_at dksX2_might_4 3 rfl rfl)
theorem dX2_might_99 : decode cX2_might 99 = .ok (.iload_n 2, 1) := dk_28 (dk_at dksX2_might_4 4 rfl rfl)
theorem dX2_might_100 : decode cX2_might 100 = .ok (.iadd, 1) := dk_96 (dk_at dksX2_might_4 5 rfl rfl)
theorem dX2_might_101 : decode cX2_might 101 = .ok (.lload 4, 2) := dk_22 4 (dk_at dksX2_might_4 6 rfl rfl)
theorem dX2_might_103 : decode cX2_might 103 = .ok (.invokevirtual 340, 3) := dk_182 1 84 (dk_at dksX2_might_4 8 rfl rfl)
theorem dX2_might_106 : decode cX2_might 106 = .ok (.invokestatic 194, 3) := dk_184 0 194 (dk_at dksX2_might_4 11 rfl rfl)
theorem dX2_might_109 : decode cX2_might 109 = .ok (.ireturn, 1) := dk_172 (dk_at dksX2_might_4 14 rfl rfl)
abbrev cX2_canEnd : ByteArray := prog_21_method_50_code
def yX2_canEnd : MethodName := ⟨RX2, "canEnd", "(IJ)Z"⟩
def dkwX2_canEnd_1 : List UInt8 := [172]
abbrev dktX2_canEnd_1 : List UInt8 := dkwX2_canEnd_1 ++ []
def dkwX2_canEnd_0 : List UInt8 := [32, 42, 180, 0, 16, 17, 0, 203, 27, 104, 5, 96, 47, 127, 9, 148, 153, 0, 7, 4, 167, 0, 4, 3]
abbrev dktX2_canEnd_0 : List UInt8 := dkwX2_canEnd_0 ++ dktX2_canEnd_1
theorem dksX2_canEnd_0 : cX2_canEnd.data.toList.drop 0 = dktX2_canEnd_0 := by decide +kernel
theorem dksX2_canEnd_1 : cX2_canEnd.data.toList.drop 24 = dktX2_canEnd_1 := dk_seg dksX2_canEnd_0 24 rfl rfl
theorem dX2_canEnd_0 : decode cX2_canEnd 0 = .ok (.lload_n 2, 1) := dk_32 (dk_at dksX2_canEnd_0 0 rfl rfl)
theorem dX2_canEnd_1 : decode cX2_canEnd 1 = .ok (.aload_n 0, 1) := dk_42 (dk_at dksX2_canEnd_0 1 rfl rfl)
theorem dX2_canEnd_2 : decode cX2_canEnd 2 = .ok (.getfield 16, 3) := dk_180 0 16 (dk_at dksX2_canEnd_0 2 rfl rfl)
theorem dX2_canEnd_5 : decode cX2_canEnd 5 = .ok (.sipush 203, 3) := dk_17 0 203 (dk_at dksX2_canEnd_0 5 rfl rfl)
theorem dX2_canEnd_8 : decode cX2_canEnd 8 = .ok (.iload_n 1, 1) := dk_27 (dk_at dksX2_canEnd_0 8 rfl rfl)
theorem dX2_canEnd_9 : decode cX2_canEnd 9 = .ok (.imul, 1) := dk_104 (dk_at dksX2_canEnd_0 9 rfl rfl)
theorem dX2_canEnd_10 : decode cX2_canEnd 10 = .ok (.iconst 2, 1) := dk_5 (dk_at dksX2_canEnd_0 10 rfl rfl)
theorem dX2_canEnd_11 : decode cX2_canEnd 11 = .ok (.iadd, 1) := dk_96 (dk_at dksX2_canEnd_0 11 rfl rfl)
theorem dX2_canEnd_12 : decode cX2_canEnd 12 = .ok (.laload, 1) := dk_47 (dk_at dksX2_canEnd_0 12 rfl rfl)
theorem dX2_canEnd_13 : decode cX2_canEnd 13 = .ok (.land, 1) := dk_127 (dk_at dksX2_canEnd_0 13 rfl rfl)
theorem dX2_canEnd_14 : decode cX2_canEnd 14 = .ok (.lconst 0, 1) := dk_9 (dk_at dksX2_canEnd_0 14 rfl rfl)
theorem dX2_canEnd_15 : decode cX2_canEnd 15 = .ok (.lcmp, 1) := dk_148 (dk_at dksX2_canEnd_0 15 rfl rfl)
theorem dX2_canEnd_16 : decode cX2_canEnd 16 = .ok (.ifCond .eq 7, 3) := dk_153 0 7 (dk_at dksX2_canEnd_0 16 rfl rfl)
theorem dX2_canEnd_19 : decode cX2_canEnd 19 = .ok (.iconst 1, 1) := dk_4 (dk_at dksX2_canEnd_0 19 rfl rfl)
theorem dX2_canEnd_20 : decode cX2_canEnd 20 = .ok (.goto 4, 3) := dk_167 0 4 (dk_at dksX2_canEnd_0 20 rfl rfl)
theorem dX2_canEnd_23 : decode cX2_canEnd 23 = .ok (.iconst 0, 1) := dk_3 (dk_at dksX2_canEnd_0 23 rfl rfl)
theorem dX2_canEnd_24 : decode cX2_canEnd 24 = .ok (.ireturn, 1) := dk_172 (dk_at dksX2_canEnd_1 0 rfl rfl)
abbrev cX2_promise : ByteArray := prog_21_method_56_code
def yX2_promise : MethodName := ⟨RX2, "promise", "(II)I"⟩
def dkwX2_promise_3 : List UInt8 := [167, 0, 14, 28, 16, 8, 162, 0, 7, 6, 167, 0, 4, 7, 96, 46, 172]
abbrev dktX2_promise_3 : List UInt8 := dkwX2_promise_3 ++ []
def dkwX2_promise_2 : List UInt8 := [62, 42, 180, 0, 7, 29, 28, 7, 162, 0, 7, 4, 167, 0, 24, 28, 16, 6, 162, 0, 7, 5]
abbrev dktX2_promise_2 : List UInt8 := dkwX2_promise_2 ++ dktX2_promise_3
def dkwX2_promise_1 : List UInt8 := [162, 0, 14, 42, 180, 0, 23, 5, 27, 104, 28, 96, 46, 172, 16, 45, 5, 27, 104, 28, 5, 112, 96, 104]
abbrev dktX2_promise_1 : List UInt8 := dkwX2_promise_1 ++ dktX2_promise_2
def dkwX2_promise_0 : List UInt8 := [42, 27, 182, 1, 48, 153, 0, 15, 28, 133, 9, 20, 1, 87, 184, 0, 131, 154, 0, 5, 2, 172, 28, 5]
abbrev dktX2_promise_0 : List UInt8 := dkwX2_promise_0 ++ dktX2_promise_1
theorem dksX2_promise_0 : cX2_promise.data.toList.drop 0 = dktX2_promise_0 := by decide +kernel
theorem dksX2_promise_1 : cX2_promise.data.toList.drop 24 = dktX2_promise_1 := dk_seg dksX2_promise_0 24 rfl rfl
theorem dksX2_promise_2 : cX2_promise.data.toList.drop 48 = dktX2_promise_2 := dk_seg dksX2_promise_1 24 rfl rfl
theorem dksX2_promise_3 : cX2_promise.data.toList.drop 70 = dktX2_promise_3 := dk_seg dksX2_promise_2 22 rfl rfl
theorem dX2_promise_0 : decode cX2_promise 0 = .ok (.aload_n 0, 1) := dk_42 (dk_at dksX2_promise_0 0 rfl rfl)
theorem dX2_promise_1 : decode cX2_promise 1 = .ok (.iload_n 1, 1) := dk_27 (dk_at dksX2_promise_0 1 rfl rfl)
theorem dX2_promise_2 : decode cX2_promise 2 = .ok (.invokevirtual 304, 3) := dk_182 1 48 (dk_at dksX2_promise_0 2 rfl rfl)
theorem dX2_promise_5 : decode cX2_promise 5 = .ok (.ifCond .eq 15, 3) := dk_153 0 15 (dk_at dksX2_promise_0 5 rfl rfl)
theorem dX2_promise_8 : decode cX2_promise 8 = .ok (.iload_n 2, 1) := dk_28 (dk_at dksX2_promise_0 8 rfl rfl)
theorem dX2_promise_9 : decode cX2_promise 9 = .ok (.i2l, 1) := dk_133 (dk_at dksX2_promise_0 9 rfl rfl)
theorem dX2_promise_10 : decode cX2_promise 10 = .ok (.lconst 0, 1) := dk_9 (dk_at dksX2_promise_0 10 rfl rfl)
theorem dX2_promise_11 : decode cX2_promise 11 = .ok (.ldc2_w 343, 3) := dk_20 1 87 (dk_at dksX2_promise_0 11 rfl rfl)
theorem dX2_promise_14 : decode cX2_promise 14 = .ok (.invokestatic 131, 3) := dk_184 0 131 (dk_at dksX2_promise_0 14 rfl rfl)
theorem dX2_promise_17 : decode cX2_promise 17 = .ok (.ifCond .ne 5, 3) := dk_154 0 5 (dk_at dksX2_promise_0 17 rfl rfl)
theorem dX2_promise_20 : decode cX2_promise 20 = .ok (.iconst (-1), 1) := dk_2 (dk_at dksX2_promise_0 20 rfl rfl)
theorem dX2_promise_21 : decode cX2_promise 21 = .ok (.ireturn, 1) := dk_172 (dk_at dksX2_promise_0 21 rfl rfl)
theorem dX2_promise_22 : decode cX2_promise 22 = .ok (.iload_n 2, 1) := dk_28 (dk_at dksX2_promise_0 22 rfl rfl)
theorem dX2_promise_23 : decode cX2_promise 23 = .ok (.iconst 2, 1) := dk_5 (dk_at dksX2_promise_0 23 rfl rfl)
theorem dX2_promise_24 : decode cX2_promise 24 = .ok (.if_icmp .ge 14, 3) := dk_162 0 14 (dk_at dksX2_promise_1 0 rfl rfl)
theorem dX2_promise_27 : decode cX2_promise 27 = .ok (.aload_n 0, 1) := dk_42 (dk_at dksX2_promise_1 3 rfl rfl)
theorem dX2_promise_28 : decode cX2_promise 28 = .ok (.getfield 23, 3) := dk_180 0 23 (dk_at dksX2_promise_1 4 rfl rfl)
theorem dX2_promise_31 : decode cX2_promise 31 = .ok (.iconst 2, 1) := dk_5 (dk_at dksX2_promise_1 7 rfl rfl)
theorem dX2_promise_32 : decode cX2_promise 32 = .ok (.iload_n 1, 1) := dk_27 (dk_at dksX2_promise_1 8 rfl rfl)
theorem dX2_promise_33 : decode cX2_promise 33 = .ok (.imul, 1) := dk_104 (dk_at dksX2_promise_1 9 rfl rfl)
theorem dX2_promise_34 : decode cX2_promise 34 = .ok (.iload_n 2, 1) := dk_28 (dk_at dksX2_promise_1 10 rfl rfl)
theorem dX2_promise_35 : decode cX2_promise 35 = .ok (.iadd, 1) := dk_96 (dk_at dksX2_promise_1 11 rfl rfl)
theorem dX2_promise_36 : decode cX2_promise 36 = .ok (.iaload, 1) := dk_46 (dk_at dksX2_promise_1 12 rfl rfl)
theorem dX2_promise_37 : decode cX2_promise 37 = .ok (.ireturn, 1) := dk_172 (dk_at dksX2_promise_1 13 rfl rfl)
theorem dX2_promise_38 : decode cX2_promise 38 = .ok (.bipush 45, 2) := dk_16 45 (dk_at dksX2_promise_1 14 rfl rfl)
theorem dX2_promise_40 : decode cX2_promise 40 = .ok (.iconst 2, 1) := dk_5 (dk_at dksX2_promise_1 16 rfl rfl)
theorem dX2_promise_41 : decode cX2_promise 41 = .ok (.iload_n 1, 1) := dk_27 (dk_at dksX2_promise_1 17 rfl rfl)
theorem dX2_promise_42 : decode cX2_promise 42 = .ok (.imul, 1) := dk_104 (dk_at dksX2_promise_1 18 rfl rfl)
theorem dX2_promise_43 : decode cX2_promise 43 = .ok (.iload_n 2, 1) := dk_28 (dk_at dksX2_promise_1 19 rfl rfl)
theorem dX2_promise_44 : decode cX2_promise 44 = .ok (.iconst 2, 1) := dk_5 (dk_at dksX2_promise_1 20 rfl rfl)
theorem dX2_promise_45 : decode cX2_promise 45 = .ok (.irem, 1) := dk_112 (dk_at dksX2_promise_1 21 rfl rfl)
theorem dX2_promise_46 : decode cX2_promise 46 = .ok (.iadd, 1) := dk_96 (dk_at dksX2_promise_1 22 rfl rfl)
theorem dX2_promise_47 : decode cX2_promise 47 = .ok (.imul, 1) := dk_104 (dk_at dksX2_promise_1 23 rfl rfl)
theorem dX2_promise_48 : decode cX2_promise 48 = .ok (.istore_n 3, 1) := dk_62 (dk_at dksX2_promise_2 0 rfl rfl)
theorem dX2_promise_49 : decode cX2_promise 49 = .ok (.aload_n 0, 1) := dk_42 (dk_at dksX2_promise_2 1 rfl rfl)
theorem dX2_promise_50 : decode cX2_promise 50 = .ok (.getfield 7, 3) := dk_180 0 7 (dk_at dksX2_promise_2 2 rfl rfl)
theorem dX2_promise_53 : decode cX2_promise 53 = .ok (.iload_n 3, 1) := dk_29 (dk_at dksX2_promise_2 5 rfl rfl)
theorem dX2_promise_54 : decode cX2_promise 54 = .ok (.iload_n 2, 1) := dk_28 (dk_at dksX2_promise_2 6 rfl rfl)
theorem dX2_promise_55 : decode cX2_promise 55 = .ok (.iconst 4, 1) := dk_7 (dk_at dksX2_promise_2 7 rfl rfl)
theorem dX2_promise_56 : decode cX2_promise 56 = .ok (.if_icmp .ge 7, 3) := dk_162 0 7 (dk_at dksX2_promise_2 8 rfl rfl)
theorem dX2_promise_59 : decode cX2_promise 59 = .ok (.iconst 1, 1) := dk_4 (dk_at dksX2_promise_2 11 rfl rfl)
theorem dX2_promise_60 : decode cX2_promise 60 = .ok (.goto 24, 3) := dk_167 0 24 (dk_at dksX2_promise_2 12 rfl rfl)
theorem dX2_promise_63 : decode cX2_promise 63 = .ok (.iload_n 2, 1) := dk_28 (dk_at dksX2_promise_2 15 rfl rfl)
theorem dX2_promise_64 : decode cX2_promise 64 = .ok (.bipush 6, 2) := dk_16 6 (dk_at dksX2_promise_2 16 rfl rfl)
theorem dX2_promise_66 : decode cX2_promise 66 = .ok (.if_icmp .ge 7, 3) := dk_162 0 7 (dk_at dksX2_promise_2 18 rfl rfl)
theorem dX2_promise_69 : decode cX2_promise 69 = .ok (.iconst 2, 1) := dk_5 (dk_at dksX2_promise_2 21 rfl rfl)
theorem dX2_promise_70 : decode cX2_promise 70 = .ok (.goto 14, 3) := dk_167 0 14 (dk_at dksX2_promise_3 0 rfl rfl)
theorem dX2_promise_73 : decode cX2_promise 73 = .ok (.iload_n 2, 1) := dk_28 (dk_at dksX2_promise_3 3 rfl rfl)
theorem dX2_promise_74 : decode cX2_promise 74 = .ok (.bipush 8, 2) := dk_16 8 (dk_at dksX2_promise_3 4 rfl rfl)
theorem dX2_promise_76 : decode cX2_promise 76 = .ok (.if_icmp .ge 7, 3) := dk_162 0 7 (dk_at dksX2_promise_3 6 rfl rfl)
theorem dX2_promise_79 : decode cX2_promise 79 = .ok (.iconst 3, 1) := dk_6 (dk_at dksX2_promise_3 9 rfl rfl)
theorem dX2_promise_80 : decode cX2_promise 80 = .ok (.goto 4, 3) := dk_167 0 4 (dk_at dksX2_promise_3 10 rfl rfl)
theorem dX2_promise_83 : decode cX2_promise 83 = .ok (.iconst 4, 1) := dk_7 (dk_at dksX2_promise_3 13 rfl rfl)
theorem dX2_promise_84 : decode cX2_promise 84 = .ok (.iadd, 1) := dk_96 (dk_at dksX2_promise_3 14 rfl rfl)
theorem dX2_promise_85 : decode cX2_promise 85 = .ok (.iaload, 1) := dk_46 (dk_at dksX2_promise_3 15 rfl rfl)
theorem dX2_promise_86 : decode cX2_promise 86 = .ok (.ireturn, 1) := dk_172 (dk_at dksX2_promise_3 16 rfl rfl)
abbrev cX2_verdict : ByteArray := prog_21_method_66_code
def yX2_verdict : MethodName := ⟨RX2, "verdict", "(II)I"⟩
def dkwX2_verdict_0 : List UInt8 := [42, 27, 28, 182, 1, 117, 153, 0, 10, 42, 180, 1, 96, 167, 0, 4, 2, 172]
abbrev dktX2_verdict_0 : List UInt8 := dkwX2_verdict_0 ++ []
theorem dksX2_verdict_0 : cX2_verdict.data.toList.drop 0 = dktX2_verdict_0 := by decide +kernel
theorem dX2_verdict_0 : decode cX2_verdict 0 = .ok (.aload_n 0, 1) := dk_42 (dk_at dksX2_verdict_0 0 rfl rfl)
theorem dX2_verdict_1 : decode cX2_verdict 1 = .ok (.iload_n 1, 1) := dk_27 (dk_at dksX2_verdict_0 1 rfl rfl)
theorem dX2_verdict_2 : decode cX2_verdict 2 = .ok (.iload_n 2, 1) := dk_28 (dk_at dksX2_verdict_0 2 rfl rfl)
theorem dX2_verdict_3 : decode cX2_verdict 3 = .ok (.invokevirtual 373, 3) := dk_182 1 117 (dk_at dksX2_verdict_0 3 rfl rfl)
theorem dX2_verdict_6 : decode cX2_verdict 6 = .ok (.ifCond .eq 10, 3) := dk_153 0 10 (dk_at dksX2_verdict_0 6 rfl rfl)
theorem dX2_verdict_9 : decode cX2_verdict 9 = .ok (.aload_n 0, 1) := dk_42 (dk_at dksX2_verdict_0 9 rfl rfl)
theorem dX2_verdict_10 : decode cX2_verdict 10 = .ok (.getfield 352, 3) := dk_180 1 96 (dk_at dksX2_verdict_0 10 rfl rfl)
theorem dX2_verdict_13 : decode cX2_verdict 13 = .ok (.goto 4, 3) := dk_167 0 4 (dk_at dksX2_verdict_0 13 rfl rfl)
theorem dX2_verdict_16 : decode cX2_verdict 16 = .ok (.iconst (-1), 1) := dk_2 (dk_at dksX2_verdict_0 16 rfl rfl)
theorem dX2_verdict_17 : decode cX2_verdict 17 = .ok (.ireturn, 1) := dk_172 (dk_at dksX2_verdict_0 17 rfl rfl)
abbrev cX2_isTry : ByteArray := prog_21_method_64_code
def yX2_isTry : MethodName := ⟨RX2, "isTry", "(II)Z"⟩
def dkwX2_isTry_1 : List UInt8 := [27, 28, 182, 1, 114, 4, 172]
abbrev dktX2_isTry_1 : List UInt8 := dkwX2_isTry_1 ++ []
def dkwX2_isTry_0 : List UInt8 := [42, 27, 182, 1, 48, 153, 0, 11, 42, 28, 182, 1, 111, 154, 0, 5, 3, 172, 42, 27, 182, 1, 69, 42]
abbrev dktX2_isTry_0 : List UInt8 := dkwX2_isTry_0 ++ dktX2_isTry_1
theorem dksX2_isTry_0 : cX2_isTry.data.toList.drop 0 = dktX2_isTry_0 := by decide +kernel
theorem dksX2_isTry_1 : cX2_isTry.data.toList.drop 24 = dktX2_isTry_1 := dk_seg dksX2_isTry_0 24 rfl rfl
theorem dX2_isTry_0 : decode cX2_isTry 0 = .ok (.aload_n 0, 1) := dk_42 (dk_at dksX2_isTry_0 0 rfl rfl)
theorem dX2_isTry_1 : decode cX2_isTry 1 = .ok (.iload_n 1, 1) := dk_27 (dk_at dksX2_isTry_0 1 rfl rfl)
theorem dX2_isTry_2 : decode cX2_isTry 2 = .ok (.invokevirtual 304, 3) := dk_182 1 48 (dk_at dksX2_isTry_0 2 rfl rfl)
theorem dX2_isTry_5 : decode cX2_isTry 5 = .ok (.ifCond .eq 11, 3) := dk_153 0 11 (dk_at dksX2_isTry_0 5 rfl rfl)
theorem dX2_isTry_8 : decode cX2_isTry 8 = .ok (.aload_n 0, 1) := dk_42 (dk_at dksX2_isTry_0 8 rfl rfl)
theorem dX2_isTry_9 : decode cX2_isTry 9 = .ok (.iload_n 2, 1) := dk_28 (dk_at dksX2_isTry_0 9 rfl rfl)
theorem dX2_isTry_10 : decode cX2_isTry 10 = .ok (.invokevirtual 367, 3) := dk_182 1 111 (dk_at dksX2_isTry_0 10 rfl rfl)
theorem dX2_isTry_13 : decode cX2_isTry 13 = .ok (.ifCond .ne 5, 3) := dk_154 0 5 (dk_at dksX2_isTry_0 13 rfl rfl)
theorem dX2_isTry_16 : decode cX2_isTry 16 = .ok (.iconst 0, 1) := dk_3 (dk_at dksX2_isTry_0 16 rfl rfl)
theorem dX2_isTry_17 : decode cX2_isTry 17 = .ok (.ireturn, 1) := dk_172 (dk_at dksX2_isTry_0 17 rfl rfl)
theorem dX2_isTry_18 : decode cX2_isTry 18 = .ok (.aload_n 0, 1) := dk_42 (dk_at dksX2_isTry_0 18 rfl rfl)
theorem dX2_isTry_19 : decode cX2_isTry 19 = .ok (.iload_n 1, 1) := dk_27 (dk_at dksX2_isTry_0 19 rfl rfl)
theorem dX2_isTry_20 : decode cX2_isTry 20 = .ok (.invokevirtual 325, 3) := dk_182 1 69 (dk_at dksX2_isTry_0 20 rfl rfl)
theorem dX2_isTry_23 : decode cX2_isTry 23 = .ok (.aload_n 0, 1) := dk_42 (dk_at dksX2_isTry_0 23 rfl rfl)
theorem dX2_isTry_24 : decode cX2_isTry 24 = .ok (.iload_n 1, 1) := dk_27 (dk_at dksX2_isTry_1 0 rfl rfl)
theorem dX2_isTry_25 : decode cX2_isTry 25 = .ok (.iload_n 2, 1) := dk_28 (dk_at dksX2_isTry_1 1 rfl rfl)
theorem dX2_isTry_26 : decode cX2_isTry 26 = .ok (.invokevirtual 370, 3) := dk_182 1 114 (dk_at dksX2_isTry_1 2 rfl rfl)
theorem dX2_isTry_29 : decode cX2_isTry 29 = .ok (.iconst 1, 1) := dk_4 (dk_at dksX2_isTry_1 5 rfl rfl)
theorem dX2_isTry_30 : decode cX2_isTry 30 = .ok (.ireturn, 1) := dk_172 (dk_at dksX2_isTry_1 6 rfl rfl)
abbrev cX2_isTick : ByteArray := prog_21_method_63_code
def yX2_isTick : MethodName := ⟨RX2, "isTick", "(I)Z"⟩
def dkwX2_isTick_0 : List UInt8 := [27, 133, 9, 42, 180, 0, 35, 3, 46, 4, 100, 133, 184, 0, 131, 172]
abbrev dktX2_isTick_0 : List UInt8 := dkwX2_isTick_0 ++ []
theorem dksX2_isTick_0 : cX2_isTick.data.toList.drop 0 = dktX2_isTick_0 := by decide +kernel
theorem dX2_isTick_0 : decode cX2_isTick 0 = .ok (.iload_n 1, 1) := dk_27 (dk_at dksX2_isTick_0 0 rfl rfl)
theorem dX2_isTick_1 : decode cX2_isTick 1 = .ok (.i2l, 1) := dk_133 (dk_at dksX2_isTick_0 1 rfl rfl)
theorem dX2_isTick_2 : decode cX2_isTick 2 = .ok (.lconst 0, 1) := dk_9 (dk_at dksX2_isTick_0 2 rfl rfl)
theorem dX2_isTick_3 : decode cX2_isTick 3 = .ok (.aload_n 0, 1) := dk_42 (dk_at dksX2_isTick_0 3 rfl rfl)
theorem dX2_isTick_4 : decode cX2_isTick 4 = .ok (.getfield 35, 3) := dk_180 0 35 (dk_at dksX2_isTick_0 4 rfl rfl)
theorem dX2_isTick_7 : decode cX2_isTick 7 = .ok (.iconst 0, 1) := dk_3 (dk_at dksX2_isTick_0 7 rfl rfl)
theorem dX2_isTick_8 : decode cX2_isTick 8 = .ok (.iaload, 1) := dk_46 (dk_at dksX2_isTick_0 8 rfl rfl)
theorem dX2_isTick_9 : decode cX2_isTick 9 = .ok (.iconst 1, 1) := dk_4 (dk_at dksX2_isTick_0 9 rfl rfl)
theorem dX2_isTick_10 : decode cX2_isTick 10 = .ok (.isub, 1) := dk_100 (dk_at dksX2_isTick_0 10 rfl rfl)
theorem dX2_isTick_11 : decode cX2_isTick 11 = .ok (.i2l, 1) := dk_133 (dk_at dksX2_isTick_0 11 rfl rfl)
theorem dX2_isTick_12 : decode cX2_isTick 12 = .ok (.invokestatic 131, 3) := dk_184 0 131 (dk_at dksX2_isTick_0 12 rfl rfl)
theorem dX2_isTick_15 : decode cX2_isTick 15 = .ok (.ireturn, 1) := dk_172 (dk_at dksX2_isTick_0 15 rfl rfl)
abbrev cX2_goesThrough : ByteArray := prog_21_method_61_code
def yX2_goesThrough : MethodName := ⟨RX2, "goesThrough", "(II)V"⟩
def dkwX2_goesThrough_7 : List UInt8 := [132, 5, 1, 167, 255, 111, 177]
abbrev dktX2_goesThrough_7 : List UInt8 := dkwX2_goesThrough_7 ++ []
def dkwX2_goesThrough_6 : List UInt8 := [182, 1, 104, 181, 1, 96, 42, 42, 180, 1, 96, 154, 0, 8, 16, 252, 167, 0, 5, 21, 5, 181, 1, 99]
abbrev dktX2_goesThrough_6 : List UInt8 := dkwX2_goesThrough_6 ++ dktX2_goesThrough_7
def dkwX2_goesThrough_5 : List UInt8 := [153, 0, 10, 42, 27, 21, 5, 182, 1, 102, 42, 180, 1, 96, 154, 0, 34, 42, 42, 27, 28, 21, 5, 33]
abbrev dktX2_goesThrough_5 : List UInt8 := dkwX2_goesThrough_5 ++ dktX2_goesThrough_6
def dkwX2_goesThrough_4 : List UInt8 := [132, 8, 1, 167, 255, 217, 42, 180, 0, 117, 21, 5, 3, 84, 42, 5, 27, 104, 22, 6, 182, 1, 80]
abbrev dktX2_goesThrough_4 : List UInt8 := dkwX2_goesThrough_4 ++ dktX2_goesThrough_5
def dkwX2_goesThrough_3 : List UInt8 := [153, 0, 22, 42, 180, 0, 111, 21, 8, 46, 154, 0, 12, 42, 27, 21, 8, 21, 5, 182, 1, 93]
abbrev dktX2_goesThrough_3 : List UInt8 := dkwX2_goesThrough_3 ++ dktX2_goesThrough_4
def dkwX2_goesThrough_2 : List UInt8 := [22, 6, 182, 1, 76, 66, 28, 54, 8, 21, 8, 21, 5, 162, 0, 38, 42, 180, 0, 117, 21, 8, 51]
abbrev dktX2_goesThrough_2 : List UInt8 := dkwX2_goesThrough_2 ++ dktX2_goesThrough_3
def dkwX2_goesThrough_1 : List UInt8 := [42, 180, 0, 35, 3, 46, 162, 0, 140, 33, 42, 180, 0, 105, 21, 5, 47, 127, 55, 6, 42, 5, 27, 104]
abbrev dktX2_goesThrough_1 : List UInt8 := dkwX2_goesThrough_1 ++ dktX2_goesThrough_2
def dkwX2_goesThrough_0 : List UInt8 := [42, 5, 27, 104, 182, 1, 72, 66, 42, 3, 181, 1, 96, 42, 16, 252, 181, 1, 99, 28, 54, 5, 21, 5]
abbrev dktX2_goesThrough_0 : List UInt8 := dkwX2_goesThrough_0 ++ dktX2_goesThrough_1
theorem dksX2_goesThrough_0 : cX2_goesThrough.data.toList.drop 0 = dktX2_goesThrough_0 := by decide +kernel
theorem dksX2_goesThrough_1 : cX2_goesThrough.data.toList.drop 24 = dktX2_goesThrough_1 := dk_seg dksX2_goesThrough_0 24 rfl rfl
theorem dksX2_goesThrough_2 : cX2_goesThrough.data.toList.drop 48 = dktX2_goesThrough_2 := dk_seg dksX2_goesThrough_1 24 rfl rfl
theorem dksX2_goesThrough_3 : cX2_goesThrough.data.toList.drop 71 = dktX2_goesThrough_3 := dk_seg dksX2_goesThrough_2 23 rfl rfl
theorem dksX2_goesThrough_4 : cX2_goesThrough.data.toList.drop 93 = dktX2_goesThrough_4 := dk_seg dksX2_goesThrough_3 22 rfl rfl
theorem dksX2_goesThrough_5 : cX2_goesThrough.data.toList.drop 116 = dktX2_goesThrough_5 := dk_seg dksX2_goesThrough_4 23 rfl rfl
theorem dksX2_goesThrough_6 : cX2_goesThrough.data.toList.drop 140 = dktX2_goesThrough_6 := dk_seg dksX2_goesThrough_5 24 rfl rfl
theorem dksX2_goesThrough_7 : cX2_goesThrough.data.toList.drop 164 = dktX2_goesThrough_7 := dk_seg dksX2_goesThrough_6 24 rfl rfl
theorem dX2_goesThrough_0 : decode cX2_goesThrough 0 = .ok (.aload_n 0, 1) := dk_42 (dk_at dksX2_goesThrough_0 0 rfl rfl)
theorem dX2_goesThrough_1 : decode cX2_goesThrough 1 = .ok (.iconst 2, 1) := dk_5 (dk_at dksX2_goesThrough_0 1 rfl rfl)
theorem dX2_goesThrough_2 : decode cX2_goesThrough 2 = .ok (.iload_n 1, 1) := dk_27 (dk_at dksX2_goesThrough_0 2 rfl rfl)
theorem dX2_goesThrough_3 : decode cX2_goesThrough 3 = .ok (.imul, 1) := dk_104 (dk_at dksX2_goesThrough_0 3 rfl rfl)
theorem dX2_goesThrough_4 : decode cX2_goesThrough 4 = .ok (.invokevirtual 328, 3) := dk_182 1 72 (dk_at dksX2_goesThrough_0 4 rfl rfl)
theorem dX2_goesThrough_7 : decode cX2_goesThrough 7 = .ok (.lstore_n 3, 1) := dk_66 (dk_at dksX2_goesThrough_0 7 rfl rfl)
theorem dX2_goesThrough_8 : decode cX2_goesThrough 8 = .ok (.aload_n 0, 1) := dk_42 (dk_at dksX2_goesThrough_0 8 rfl rfl)
theorem dX2_goesThrough_9 : decode cX2_goesThrough 9 = .ok (.iconst 0, 1) := dk_3 (dk_at dksX2_goesThrough_0 9 rfl rfl)
theorem dX2_goesThrough_10 : decode cX2_goesThrough 10 = .ok (.putfield 352, 3) := dk_181 1 96 (dk_at dksX2_goesThrough_0 10 rfl rfl)
theorem dX2_goesThrough_13 : decode cX2_goesThrough 13 = .ok (.aload_n 0, 1) := dk_42 (dk_at dksX2_goesThrough_0 13 rfl rfl)
theorem dX2_goesThrough_14 : decode cX2_goesThrough 14 = .ok (.bipush (-4), 2) := dk_16 252 (dk_at dksX2_goesThrough_0 14 rfl rfl)
theorem dX2_goesThrough_16 : decode cX2_goesThrough 16 = .ok (.putfield 355, 3) := dk_181 1 99 (dk_at dksX2_goesThrough_0 16 rfl rfl)
theorem dX2_goesThrough_19 : decode cX2_goesThrough 19 = .ok (.iload_n 2, 1) := dk_28 (dk_at dksX2_goesThrough_0 19 rfl rfl)
theorem dX2_goesThrough_20 : decode cX2_goesThrough 20 = .ok (.istore 5, 2) := dk_54 5 (dk_at dksX2_goesThrough_0 20 rfl rfl)
theorem dX2_goesThrough_22 : decode cX2_goesThrough 22 = .ok (.iload 5, 2) := dk_21 5 (dk_at dksX2_goesThrough_0 22 rfl rfl)
theorem dX2_goesThrough_24 : decode cX2_goesThrough 24 = .ok (.aload_n 0, 1) := dk_42 (dk_at dksX2_goesThrough_1 0 rfl rfl)
theorem dX2_goesThrough_25 : decode cX2_goesThrough 25 = .ok (.getfield 35, 3) := dk_180 0 35 (dk_at dksX2_goesThrough_1 1 rfl rfl)
theorem dX2_goesThrough_28 : decode cX2_goesThrough 28 = .ok (.iconst 0, 1) := dk_3 (dk_at dksX2_goesThrough_1 4 rfl rfl)
theorem dX2_goesThrough_29 : decode cX2_goesThrough 29 = .ok (.iaload, 1) := dk_46 (dk_at dksX2_goesThrough_1 5 rfl rfl)
theorem dX2_goesThrough_30 : decode cX2_goesThrough 30 = .ok (.if_icmp .ge 140, 3) := dk_162 0 140 (dk_at dksX2_goesThrough_1 6 rfl rfl)
theorem dX2_goesThrough_33 : decode cX2_goesThrough 33 = .ok (.lload_n 3, 1) := dk_33 (dk_at dksX2_goesThrough_1 9 rfl rfl)
theorem dX2_goesThrough_34 : decode cX2_goesThrough 34 = .ok (.aload_n 0, 1) := dk_42 (dk_at dksX2_goesThrough_1 10 rfl rfl)
theorem dX2_goesThrough_35 : decode cX2_goesThrough 35 = .ok (.getfield 105, 3) := dk_180 0 105 (dk_at dksX2_goesThrough_1 11 rfl rfl)
theorem dX2_goesThrough_38 : decode cX2_goesThrough 38 = .ok (.iload 5, 2) := dk_21 5 (dk_at dksX2_goesThrough_1 14 rfl rfl)
theorem dX2_goesThrough_40 : decode cX2_goesThrough 40 = .ok (.laload, 1) := dk_47 (dk_at dksX2_goesThrough_1 16 rfl rfl)
theorem dX2_goesThrough_41 : decode cX2_goesThrough 41 = .ok (.land, 1) := dk_127 (dk_at dksX2_goesThrough_1 17 rfl rfl)
theorem dX2_goesThrough_42 : decode cX2_goesThrough 42 = .ok (.lstore 6, 2) := dk_55 6 (dk_at dksX2_goesThrough_1 18 rfl rfl)
theorem dX2_goesThrough_44 : decode cX2_goesThrough 44 = .ok (.aload_n 0, 1) := dk_42 (dk_at dksX2_goesThrough_1 20 rfl rfl)
theorem dX2_goesThrough_45 : decode cX2_goesThrough 45 = .ok (.iconst 2, 1) := dk_5 (dk_at dksX2_goesThrough_1 21 rfl rfl)
theorem dX2_goesThrough_46 : decode cX2_goesThrough 46 = .ok (.iload_n 1, 1) := dk_27 (dk_at dksX2_goesThrough_1 22 rfl rfl)
theorem dX2_goesThrough_47 : decode cX2_goesThrough 47 = .ok (.imul, 1) := dk_104 (dk_at dksX2_goesThrough_1 23 rfl rfl)
theorem dX2_goesThrough_48 : decode cX2_goesThrough 48 = .ok (.lload 6, 2) := dk_22 6 (dk_at dksX2_goesThrough_2 0 rfl rfl)
theorem dX2_goesThrough_50 : decode cX2_goesThrough 50 = .ok (.invokevirtual 332, 3) := dk_182 1 76 (dk_at dksX2_goesThrough_2 2 rfl rfl)
theorem dX2_goesThrough_53 : decode cX2_goesThrough 53 = .ok (.lstore_n 3, 1) := dk_66 (dk_at dksX2_goesThrough_2 5 rfl rfl)
theorem dX2_goesThrough_54 : decode cX2_goesThrough 54 = .ok (.iload_n 2, 1) := dk_28 (dk_at dksX2_goesThrough_2 6 rfl rfl)
theorem dX2_goesThrough_55 : decode cX2_goesThrough 55 = .ok (.istore 8, 2) := dk_54 8 (dk_at dksX2_goesThrough_2 7 rfl rfl)
theorem dX2_goesThrough_57 : decode cX2_goesThrough 57 = .ok (.iload 8, 2) := dk_21 8 (dk_at dksX2_goesThrough_2 9 rfl rfl)
theorem dX2_goesThrough_59 : decode cX2_goesThrough 59 = .ok (.iload 5, 2) := dk_21 5 (dk_at dksX2_goesThrough_2 11 rfl rfl)
theorem dX2_goesThrough_61 : decode cX2_goesThrough 61 = .ok (.if_icmp .ge 38, 3) := dk_162 0 38 (dk_at dksX2_goesThrough_2 13 rfl rfl)
theorem dX2_goesThrough_64 : decode cX2_goesThrough 64 = .ok (.aload_n 0, 1) := dk_42 (dk_at dksX2_goesThrough_2 16 rfl rfl)
theorem dX2_goesThrough_65 : decode cX2_goesThrough 65 = .ok (.getfield 117, 3) := dk_180 0 117 (dk_at dksX2_goesThrough_2 17 rfl rfl)
theorem dX2_goesThrough_68 : decode cX2_goesThrough 68 = .ok (.iload 8, 2) := dk_21 8 (dk_at dksX2_goesThrough_2 20 rfl rfl)
theorem dX2_goesThrough_70 : decode cX2_goesThrough 70 = .ok (.baload, 1) := dk_51 (dk_at dksX2_goesThrough_2 22 rfl rfl)
theorem dX2_goesThrough_71 : decode cX2_goesThrough 71 = .ok (.ifCond .eq 22, 3) := dk_153 0 22 (dk_at dksX2_goesThrough_3 0 rfl rfl)
theorem dX2_goesThrough_74 : decode cX2_goesThrough 74 = .ok (.aload_n 0, 1) := dk_42 (dk_at dksX2_goesThrough_3 3 rfl rfl)
theorem dX2_goesThrough_75 : decode cX2_goesThrough 75 = .ok (.getfield 111, 3) := dk_180 0 111 (dk_at dksX2_goesThrough_3 4 rfl rfl)
theorem dX2_goesThrough_78 : decode cX2_goesThrough 78 = .ok (.iload 8, 2) := dk_21 8 (dk_at dksX2_goesThrough_3 7 rfl rfl)
theorem dX2_goesThrough_80 : decode cX2_goesThrough 80 = .ok (.iaload, 1) := dk_46 (dk_at dksX2_goesThrough_3 9 rfl rfl)
theorem dX2_goesThrough_81 : decode cX2_goesThrough 81 = .ok (.ifCond .ne 12, 3) := dk_154 0 12 (dk_at dksX2_goesThrough_3 10 rfl rfl)
theorem dX2_goesThrough_84 : decode cX2_goesThrough 84 = .ok (.aload_n 0, 1) := dk_42 (dk_at dksX2_goesThrough_3 13 rfl rfl)
theorem dX2_goesThrough_85 : decode cX2_goesThrough 85 = .ok (.iload_n 1, 1) := dk_27 (dk_at dksX2_goesThrough_3 14 rfl rfl)
theorem dX2_goesThrough_86 : decode cX2_goesThrough 86 = .ok (.iload 8, 2) := dk_21 8 (dk_at dksX2_goesThrough_3 15 rfl rfl)
theorem dX2_goesThrough_88 : decode cX2_goesThrough 88 = .ok (.iload 5, 2) := dk_21 5 (dk_at dksX2_goesThrough_3 17 rfl rfl)
theorem dX2_goesThrough_90 : decode cX2_goesThrough 90 = .ok (.invokevirtual 349, 3) := dk_182 1 93 (dk_at dksX2_goesThrough_3 19 rfl rfl)
theorem dX2_goesThrough_93 : decode cX2_goesThrough 93 = .ok (.iinc 8 1, 3) := dk_132 8 1 (dk_at dksX2_goesThrough_4 0 rfl rfl)
theorem dX2_goesThrough_96 : decode cX2_goesThrough 96 = .ok (.goto (-39), 3) := dk_167 255 217 (dk_at dksX2_goesThrough_4 3 rfl rfl)
theorem dX2_goesThrough_99 : decode cX2_goesThrough 99 = .ok (.aload_n 0, 1) := dk_42 (dk_at dksX2_goesThrough_4 6 rfl rfl)
theorem dX2_goesThrough_100 : decode cX2_goesThrough 100 = .ok (.getfield 117, 3) := dk_180 0 117 (dk_at dksX2_goesThrough_4 7 rfl rfl)
theorem dX2_goesThrough_103 : decode cX2_goesThrough 103 = .ok (.iload 5, 2) := dk_21 5 (dk_at dksX2_goesThrough_4 10 rfl rfl)
theorem dX2_goesThrough_105 : decode cX2_goesThrough 105 = .ok (.iconst 0, 1) := dk_3 (dk_at dksX2_goesThrough_4 12 rfl rfl)
theorem dX2_goesThrough_106 : decode cX2_goesThrough 106 = .ok (.bastore, 1) := dk_84 (dk_at dksX2_goesThrough_4 13 rfl rfl)
theorem dX2_goesThrough_107 : decode cX2_goesThrough 107 = .ok (.aload_n 0, 1) := dk_42 (dk_at dksX2_goesThrough_4 14 rfl rfl)
theorem dX2_goesThrough_108 : decode cX2_goesThrough 108 = .ok (.iconst 2, 1) := dk_5 (dk_at dksX2_goesThrough_4 15 rfl rfl)
theorem dX2_goesThrough_109 : decode cX2_goesThrough 109 = .ok (.iload_n 1, 1) := dk_27 (dk_at dksX2_goesThrough_4 16 rfl rfl)
theorem dX2_goesThrough_110 : decode cX2_goesThrough 110 = .ok (.imul, 1) := dk_104 (dk_at dksX2_goesThrough_4 17 rfl rfl)
theorem dX2_goesThrough_111 : decode cX2_goesThrough 111 = .ok (.lload 6, 2) := dk_22 6 (dk_at dksX2_goesThrough_4 18 rfl rfl)
theorem dX2_goesThrough_113 : decode cX2_goesThrough 113 = .ok (.invokevirtual 336, 3) := dk_182 1 80 (dk_at dksX2_goesThrough_4 20 rfl rfl)
theorem dX2_goesThrough_116 : decode cX2_goesThrough 116 = .ok (.ifCond .eq 10, 3) := dk_153 0 10 (dk_at dksX2_goesThrough_5 0 rfl rfl)
theorem dX2_goesThrough_119 : decode cX2_goesThrough 119 = .ok (.aload_n 0, 1) := dk_42 (dk_at dksX2_goesThrough_5 3 rfl rfl)
theorem dX2_goesThrough_120 : decode cX2_goesThrough 120 = .ok (.iload_n 1, 1) := dk_27 (dk_at dksX2_goesThrough_5 4 rfl rfl)
theorem dX2_goesThrough_121 : decode cX2_goesThrough 121 = .ok (.iload 5, 2) := dk_21 5 (dk_at dksX2_goesThrough_5 5 rfl rfl)
theorem dX2_goesThrough_123 : decode cX2_goesThrough 123 = .ok (.invokevirtual 358, 3) := dk_182 1 102 (dk_at dksX2_goesThrough_5 7 rfl rfl)
theorem dX2_goesThrough_126 : decode cX2_goesThrough 126 = .ok (.aload_n 0, 1) := dk_42 (dk_at dksX2_goesThrough_5 10 rfl rfl)
theorem dX2_goesThrough_127 : decode cX2_goesThrough 127 = .ok (.getfield 352, 3) := dk_180 1 96 (dk_at dksX2_goesThrough_5 11 rfl rfl)
theorem dX2_goesThrough_130 : decode cX2_goesThrough 130 = .ok (.ifCond .ne 34, 3) := dk_154 0 34 (dk_at dksX2_goesThrough_5 14 rfl rfl)
theorem dX2_goesThrough_133 : decode cX2_goesThrough 133 = .ok (.aload_n 0, 1) := dk_42 (dk_at dksX2_goesThrough_5 17 rfl rfl)
theorem dX2_goesThrough_134 : decode cX2_goesThrough 134 = .ok (.aload_n 0, 1) := dk_42 (dk_at dksX2_goesThrough_5 18 rfl rfl)
theorem dX2_goesThrough_135 : decode cX2_goesThrough 135 = .ok (.iload_n 1, 1) := dk_27 (dk_at dksX2_goesThrough_5 19 rfl rfl)
theorem dX2_goesThrough_136 : decode cX2_goesThrough 136 = .ok (.iload_n 2, 1) := dk_28 (dk_at dksX2_goesThrough_5 20 rfl rfl)
theorem dX2_goesThrough_137 : decode cX2_goesThrough 137 = .ok (.iload 5, 2) := dk_21 5 (dk_at dksX2_goesThrough_5 21 rfl rfl)
theorem dX2_goesThrough_139 : decode cX2_goesThrough 139 = .ok (.lload_n 3, 1) := dk_33 (dk_at dksX2_goesThrough_5 23 rfl rfl)
theorem dX2_goesThrough_140 : decode cX2_goesThrough 140 = .ok (.invokevirtual 360, 3) := dk_182 1 104 (dk_at dksX2_goesThrough_6 0 rfl rfl)
theorem dX2_goesThrough_143 : decode cX2_goesThrough 143 = .ok (.putfield 352, 3) := dk_181 1 96 (dk_at dksX2_goesThrough_6 3 rfl rfl)
theorem dX2_goesThrough_146 : decode cX2_goesThrough 146 = .ok (.aload_n 0, 1) := dk_42 (dk_at dksX2_goesThrough_6 6 rfl rfl)
theorem dX2_goesThrough_147 : decode cX2_goesThrough 147 = .ok (.aload_n 0, 1) := dk_42 (dk_at dksX2_goesThrough_6 7 rfl rfl)
theorem dX2_goesThrough_148 : decode cX2_goesThrough 148 = .ok (.getfield 352, 3) := dk_180 1 96 (dk_at dksX2_goesThrough_6 8 rfl rfl)
theorem dX2_goesThrough_151 : decode cX2_goesThrough 151 = .ok (.ifCond .ne 8, 3) := dk_154 0 8 (dk_at dksX2_goesThrough_6 11 rfl rfl)
theorem dX2_goesThrough_154 : decode cX2_goesThrough 154 = .ok (.bipush (-4), 2) := dk_16 252 (dk_at dksX2_goesThrough_6 14 rfl rfl)
theorem dX2_goesThrough_156 : decode cX2_goesThrough 156 = .ok (.goto 5, 3) := dk_167 0 5 (dk_at dksX2_goesThrough_6 16 rfl rfl)
theorem dX2_goesThrough_159 : decode cX2_goesThrough 159 = .ok (.iload 5, 2) := dk_21 5 (dk_at dksX2_goesThrough_6 19 rfl rfl)
theorem dX2_goesThrough_161 : decode cX2_goesThrough 161 = .ok (.putfield 355, 3) := dk_181 1 99 (dk_at dksX2_goesThrough_6 21 rfl rfl)
theorem dX2_goesThrough_164 : decode cX2_goesThrough 164 = .ok (.iinc 5 1, 3) := dk_132 5 1 (dk_at dksX2_goesThrough_7 0 rfl rfl)
theorem dX2_goesThrough_167 : decode cX2_goesThrough 167 = .ok (.goto (-145), 3) := dk_167 255 111 (dk_at dksX2_goesThrough_7 3 rfl rfl)
theorem dX2_goesThrough_170 : decode cX2_goesThrough 170 = .ok (.return_, 1) := dk_177 (dk_at dksX2_goesThrough_7 6 rfl rfl)
abbrev cX2_goesOn : ByteArray := prog_21_method_57_code
def yX2_goesOn : MethodName := ⟨RX2, "goesOn", "(III)V"⟩
def dkwX2_goesOn_3 : List UInt8 := [29, 182, 1, 89, 177]
abbrev dktX2_goesOn_3 : List UInt8 := dkwX2_goesOn_3 ++ []
def dkwX2_goesOn_2 : List UInt8 := [153, 0, 20, 42, 180, 0, 111, 28, 4, 79, 42, 180, 0, 114, 28, 29, 79, 167, 0, 11, 42, 21, 4, 28]
abbrev dktX2_goesOn_2 : List UInt8 := dkwX2_goesOn_2 ++ dktX2_goesOn_3
def dkwX2_goesOn_1 : List UInt8 := [55, 5, 42, 180, 0, 108, 28, 42, 21, 4, 22, 5, 182, 1, 76, 80, 42, 21, 4, 22, 5, 182, 1, 80]
abbrev dktX2_goesOn_1 : List UInt8 := dkwX2_goesOn_1 ++ dktX2_goesOn_2
def dkwX2_goesOn_0 : List UInt8 := [5, 27, 104, 4, 96, 54, 4, 42, 180, 0, 108, 28, 47, 42, 180, 0, 105, 16, 48, 29, 96, 47, 127]
abbrev dktX2_goesOn_0 : List UInt8 := dkwX2_goesOn_0 ++ dktX2_goesOn_1
theorem dksX2_goesOn_0 : cX2_goesOn.data.toList.drop 0 = dktX2_goesOn_0 := by decide +kernel
theorem dksX2_goesOn_1 : cX2_goesOn.data.toList.drop 23 = dktX2_goesOn_1 := dk_seg dksX2_goesOn_0 23 rfl rfl
theorem dksX2_goesOn_2 : cX2_goesOn.data.toList.drop 47 = dktX2_goesOn_2 := dk_seg dksX2_goesOn_1 24 rfl rfl
theorem dksX2_goesOn_3 : cX2_goesOn.data.toList.drop 71 = dktX2_goesOn_3 := dk_seg dksX2_goesOn_2 24 rfl rfl
theorem dX2_goesOn_0 : decode cX2_goesOn 0 = .ok (.iconst 2, 1) := dk_5 (dk_at dksX2_goesOn_0 0 rfl rfl)
theorem dX2_goesOn_1 : decode cX2_goesOn 1 = .ok (.iload_n 1, 1) := dk_27 (dk_at dksX2_goesOn_0 1 rfl rfl)
theorem dX2_goesOn_2 : decode cX2_goesOn 2 = .ok (.imul, 1) := dk_104 (dk_at dksX2_goesOn_0 2 rfl rfl)
theorem dX2_goesOn_3 : decode cX2_goesOn 3 = .ok (.iconst 1, 1) := dk_4 (dk_at dksX2_goesOn_0 3 rfl rfl)
theorem dX2_goesOn_4 : decode cX2_goesOn 4 = .ok (.iadd, 1) := dk_96 (dk_at dksX2_goesOn_0 4 rfl rfl)
theorem dX2_goesOn_5 : decode cX2_goesOn 5 = .ok (.istore 4, 2) := dk_54 4 (dk_at dksX2_goesOn_0 5 rfl rfl)
theorem dX2_goesOn_7 : decode cX2_goesOn 7 = .ok (.aload_n 0, 1) := dk_42 (dk_at dksX2_goesOn_0 7 rfl rfl)
theorem dX2_goesOn_8 : decode cX2_goesOn 8 = .ok (.getfield 108, 3) := dk_180 0 108 (dk_at dksX2_goesOn_0 8 rfl rfl)
theorem dX2_goesOn_11 : decode cX2_goesOn 11 = .ok (.iload_n 2, 1) := dk_28 (dk_at dksX2_goesOn_0 11 rfl rfl)
theorem dX2_goesOn_12 : decode cX2_goesOn 12 = .ok (.laload, 1) := dk_47 (dk_at dksX2_goesOn_0 12 rfl rfl)
theorem dX2_goesOn_13 : decode cX2_goesOn 13 = .ok (.aload_n 0, 1) := dk_42 (dk_at dksX2_goesOn_0 13 rfl rfl)
theorem dX2_goesOn_14 : decode cX2_goesOn 14 = .ok (.getfield 105, 3) := dk_180 0 105 (dk_at dksX2_goesOn_0 14 rfl rfl)
theorem dX2_goesOn_17 : decode cX2_goesOn 17 = .ok (.bipush 48, 2) := dk_16 48 (dk_at dksX2_goesOn_0 17 rfl rfl)
theorem dX2_goesOn_19 : decode cX2_goesOn 19 = .ok (.iload_n 3, 1) := dk_29 (dk_at dksX2_goesOn_0 19 rfl rfl)
theorem dX2_goesOn_20 : decode cX2_goesOn 20 = .ok (.iadd, 1) := dk_96 (dk_at dksX2_goesOn_0 20 rfl rfl)
theorem dX2_goesOn_21 : decode cX2_goesOn 21 = .ok (.laload, 1) := dk_47 (dk_at dksX2_goesOn_0 21 rfl rfl)
theorem dX2_goesOn_22 : decode cX2_goesOn 22 = .ok (.land, 1) := dk_127 (dk_at dksX2_goesOn_0 22 rfl rfl)
theorem dX2_goesOn_23 : decode cX2_goesOn 23 = .ok (.lstore 5, 2) := dk_55 5 (dk_at dksX2_goesOn_1 0 rfl rfl)
theorem dX2_goesOn_25 : decode cX2_goesOn 25 = .ok (.aload_n 0, 1) := dk_42 (dk_at dksX2_goesOn_1 2 rfl rfl)
theorem dX2_goesOn_26 : decode cX2_goesOn 26 = .ok (.getfield 108, 3) := dk_180 0 108 (dk_at dksX2_goesOn_1 3 rfl rfl)
theorem dX2_goesOn_29 : decode cX2_goesOn 29 = .ok (.iload_n 2, 1) := dk_28 (dk_at dksX2_goesOn_1 6 rfl rfl)
theorem dX2_goesOn_30 : decode cX2_goesOn 30 = .ok (.aload_n 0, 1) := dk_42 (dk_at dksX2_goesOn_1 7 rfl rfl)
theorem dX2_goesOn_31 : decode cX2_goesOn 31 = .ok (.iload 4, 2) := dk_21 4 (dk_at dksX2_goesOn_1 8 rfl rfl)
theorem dX2_goesOn_33 : decode cX2_goesOn 33 = .ok (.lload 5, 2) := dk_22 5 (dk_at dksX2_goesOn_1 10 rfl rfl)
theorem dX2_goesOn_35 : decode cX2_goesOn 35 = .ok (.invokevirtual 332, 3) := dk_182 1 76 (dk_at dksX2_goesOn_1 12 rfl rfl)
theorem dX2_goesOn_38 : decode cX2_goesOn 38 = .ok (.lastore, 1) := dk_80 (dk_at dksX2_goesOn_1 15 rfl rfl)
theorem dX2_goesOn_39 : decode cX2_goesOn 39 = .ok (.aload_n 0, 1) := dk_42 (dk_at dksX2_goesOn_1 16 rfl rfl)
theorem dX2_goesOn_40 : decode cX2_goesOn 40 = .ok (.iload 4, 2) := dk_21 4 (dk_at dksX2_goesOn_1 17 rfl rfl)
theorem dX2_goesOn_42 : decode cX2_goesOn 42 = .ok (.lload 5, 2) := dk_22 5 (dk_at dksX2_goesOn_1 19 rfl rfl)
theorem dX2_goesOn_44 : decode cX2_goesOn 44 = .ok (.invokevirtual 336, 3) := dk_182 1 80 (dk_at dksX2_goesOn_1 21 rfl rfl)
theorem dX2_goesOn_47 : decode cX2_goesOn 47 = .ok (.ifCond .eq 20, 3) := dk_153 0 20 (dk_at dksX2_goesOn_2 0 rfl rfl)
theorem dX2_goesOn_50 : decode cX2_goesOn 50 = .ok (.aload_n 0, 1) := dk_42 (dk_at dksX2_goesOn_2 3 rfl rfl)
theorem dX2_goesOn_51 : decode cX2_goesOn 51 = .ok (.getfield 111, 3) := dk_180 0 111 (dk_at dksX2_goesOn_2 4 rfl rfl)
theorem dX2_goesOn_54 : decode cX2_goesOn 54 = .ok (.iload_n 2, 1) := dk_28 (dk_at dksX2_goesOn_2 7 rfl rfl)
theorem dX2_goesOn_55 : decode cX2_goesOn 55 = .ok (.iconst 1, 1) := dk_4 (dk_at dksX2_goesOn_2 8 rfl rfl)
theorem dX2_goesOn_56 : decode cX2_goesOn 56 = .ok (.iastore, 1) := dk_79 (dk_at dksX2_goesOn_2 9 rfl rfl)
theorem dX2_goesOn_57 : decode cX2_goesOn 57 = .ok (.aload_n 0, 1) := dk_42 (dk_at dksX2_goesOn_2 10 rfl rfl)
theorem dX2_goesOn_58 : decode cX2_goesOn 58 = .ok (.getfield 114, 3) := dk_180 0 114 (dk_at dksX2_goesOn_2 11 rfl rfl)
theorem dX2_goesOn_61 : decode cX2_goesOn 61 = .ok (.iload_n 2, 1) := dk_28 (dk_at dksX2_goesOn_2 14 rfl rfl)
theorem dX2_goesOn_62 : decode cX2_goesOn 62 = .ok (.iload_n 3, 1) := dk_29 (dk_at dksX2_goesOn_2 15 rfl rfl)
theorem dX2_goesOn_63 : decode cX2_goesOn 63 = .ok (.iastore, 1) := dk_79 (dk_at dksX2_goesOn_2 16 rfl rfl)
theorem dX2_goesOn_64 : decode cX2_goesOn 64 = .ok (.goto 11, 3) := dk_167 0 11 (dk_at dksX2_goesOn_2 17 rfl rfl)
theorem dX2_goesOn_67 : decode cX2_goesOn 67 = .ok (.aload_n 0, 1) := dk_42 (dk_at dksX2_goesOn_2 20 rfl rfl)
theorem dX2_goesOn_68 : decode cX2_goesOn 68 = .ok (.iload 4, 2) := dk_21 4 (dk_at dksX2_goesOn_2 21 rfl rfl)
theorem dX2_goesOn_70 : decode cX2_goesOn 70 = .ok (.iload_n 2, 1) := dk_28 (dk_at dksX2_goesOn_2 23 rfl rfl)
theorem dX2_goesOn_71 : decode cX2_goesOn 71 = .ok (.iload_n 3, 1) := dk_29 (dk_at dksX2_goesOn_3 0 rfl rfl)
theorem dX2_goesOn_72 : decode cX2_goesOn 72 = .ok (.invokevirtual 345, 3) := dk_182 1 89 (dk_at dksX2_goesOn_3 1 rfl rfl)
theorem dX2_goesOn_75 : decode cX2_goesOn 75 = .ok (.return_, 1) := dk_177 (dk_at dksX2_goesOn_3 4 rfl rfl)
abbrev cX2_dies : ByteArray := prog_21_method_58_code
def yX2_dies : MethodName := ⟨RX2, "dies", "(III)V"⟩
def dkwX2_dies_1 : List UInt8 := [180, 0, 114, 28, 29, 79, 177]
abbrev dktX2_dies_1 : List UInt8 := dkwX2_dies_1 ++ []
def dkwX2_dies_0 : List UInt8 := [42, 27, 42, 180, 0, 108, 28, 47, 182, 1, 84, 154, 0, 17, 42, 180, 0, 111, 28, 5, 79, 42]
abbrev dktX2_dies_0 : List UInt8 := dkwX2_dies_0 ++ dktX2_dies_1
theorem dksX2_dies_0 : cX2_dies.data.toList.drop 0 = dktX2_dies_0 := by decide +kernel
theorem dksX2_dies_1 : cX2_dies.data.toList.drop 22 = dktX2_dies_1 := dk_seg dksX2_dies_0 22 rfl rfl
theorem dX2_dies_0 : decode cX2_dies 0 = .ok (.aload_n 0, 1) := dk_42 (dk_at dksX2_dies_0 0 rfl rfl)
theorem dX2_dies_1 : decode cX2_dies 1 = .ok (.iload_n 1, 1) := dk_27 (dk_at dksX2_dies_0 1 rfl rfl)
theorem dX2_dies_2 : decode cX2_dies 2 = .ok (.aload_n 0, 1) := dk_42 (dk_at dksX2_dies_0 2 rfl rfl)
theorem dX2_dies_3 : decode cX2_dies 3 = .ok (.getfield 108, 3) := dk_180 0 108 (dk_at dksX2_dies_0 3 rfl rfl)
theorem dX2_dies_6 : decode cX2_dies 6 = .ok (.iload_n 2, 1) := dk_28 (dk_at dksX2_dies_0 6 rfl rfl)
theorem dX2_dies_7 : decode cX2_dies 7 = .ok (.laload, 1) := dk_47 (dk_at dksX2_dies_0 7 rfl rfl)
theorem dX2_dies_8 : decode cX2_dies 8 = .ok (.invokevirtual 340, 3) := dk_182 1 84 (dk_at dksX2_dies_0 8 rfl rfl)
theorem dX2_dies_11 : decode cX2_dies 11 = .ok (.ifCond .ne 17, 3) := dk_154 0 17 (dk_at dksX2_dies_0 11 rfl rfl)
theorem dX2_dies_14 : decode cX2_dies 14 = .ok (.aload_n 0, 1) := dk_42 (dk_at dksX2_dies_0 14 rfl rfl)
theorem dX2_dies_15 : decode cX2_dies 15 = .ok (.getfield 111, 3) := dk_180 0 111 (dk_at dksX2_dies_0 15 rfl rfl)
theorem dX2_dies_18 : decode cX2_dies 18 = .ok (.iload_n 2, 1) := dk_28 (dk_at dksX2_dies_0 18 rfl rfl)
theorem dX2_dies_19 : decode cX2_dies 19 = .ok (.iconst 2, 1) := dk_5 (dk_at dksX2_dies_0 19 rfl rfl)
theorem dX2_dies_20 : decode cX2_dies 20 = .ok (.iastore, 1) := dk_79 (dk_at dksX2_dies_0 20 rfl rfl)
theorem dX2_dies_21 : decode cX2_dies 21 = .ok (.aload_n 0, 1) := dk_42 (dk_at dksX2_dies_0 21 rfl rfl)
theorem dX2_dies_22 : decode cX2_dies 22 = .ok (.getfield 114, 3) := dk_180 0 114 (dk_at dksX2_dies_1 0 rfl rfl)
theorem dX2_dies_25 : decode cX2_dies 25 = .ok (.iload_n 2, 1) := dk_28 (dk_at dksX2_dies_1 3 rfl rfl)
theorem dX2_dies_26 : decode cX2_dies 26 = .ok (.iload_n 3, 1) := dk_29 (dk_at dksX2_dies_1 4 rfl rfl)
theorem dX2_dies_27 : decode cX2_dies 27 = .ok (.iastore, 1) := dk_79 (dk_at dksX2_dies_1 5 rfl rfl)
theorem dX2_dies_28 : decode cX2_dies 28 = .ok (.return_, 1) := dk_177 (dk_at dksX2_dies_1 6 rfl rfl)
abbrev cX2_begins : ByteArray := prog_21_method_59_code
def yX2_begins : MethodName := ⟨RX2, "begins", "(II)V"⟩
def dkwX2_begins_3 : List UInt8 := [177]
abbrev dktX2_begins_3 : List UInt8 := dkwX2_begins_3 ++ []
def dkwX2_begins_2 : List UInt8 := [154, 0, 13, 42, 27, 28, 28, 182, 1, 93, 167, 0, 14, 42, 5, 27, 104, 4, 96, 28, 28, 182, 1, 89]
abbrev dktX2_begins_2 : List UInt8 := dkwX2_begins_2 ++ dktX2_begins_3
def dkwX2_begins_1 : List UInt8 := [180, 0, 108, 28, 42, 5, 27, 104, 4, 96, 182, 1, 72, 80, 42, 180, 0, 23, 5, 27, 104, 46]
abbrev dktX2_begins_1 : List UInt8 := dkwX2_begins_1 ++ dktX2_begins_2
def dkwX2_begins_0 : List UInt8 := [42, 180, 0, 117, 28, 4, 84, 42, 180, 0, 111, 28, 3, 79, 42, 180, 0, 114, 28, 16, 252, 79, 42]
abbrev dktX2_begins_0 : List UInt8 := dkwX2_begins_0 ++ dktX2_begins_1
theorem dksX2_begins_0 : cX2_begins.data.toList.drop 0 = dktX2_begins_0 := by decide +kernel
theorem dksX2_begins_1 : cX2_begins.data.toList.drop 23 = dktX2_begins_1 := dk_seg dksX2_begins_0 23 rfl rfl
theorem dksX2_begins_2 : cX2_begins.data.toList.drop 45 = dktX2_begins_2 := dk_seg dksX2_begins_1 22 rfl rfl
theorem dksX2_begins_3 : cX2_begins.data.toList.drop 69 = dktX2_begins_3 := dk_seg dksX2_begins_2 24 rfl rfl
theorem dX2_begins_0 : decode cX2_begins 0 = .ok (.aload_n 0, 1) := dk_42 (dk_at dksX2_begins_0 0 rfl rfl)
theorem dX2_begins_1 : decode cX2_begins 1 = .ok (.getfield 117, 3) := dk_180 0 117 (dk_at dksX2_begins_0 1 rfl rfl)
theorem dX2_begins_4 : decode cX2_begins 4 = .ok (.iload_n 2, 1) := dk_28 (dk_at dksX2_begins_0 4 rfl rfl)
theorem dX2_begins_5 : decode cX2_begins 5 = .ok (.iconst 1, 1) := dk_4 (dk_at dksX2_begins_0 5 rfl rfl)
theorem dX2_begins_6 : decode cX2_begins 6 = .ok (.bastore, 1) := dk_84 (dk_at dksX2_begins_0 6 rfl rfl)
theorem dX2_begins_7 : decode cX2_begins 7 = .ok (.aload_n 0, 1) := dk_42 (dk_at dksX2_begins_0 7 rfl rfl)
theorem dX2_begins_8 : decode cX2_begins 8 = .ok (.getfield 111, 3) := dk_180 0 111 (dk_at dksX2_begins_0 8 rfl rfl)
theorem dX2_begins_11 : decode cX2_begins 11 = .ok (.iload_n 2, 1) := dk_28 (dk_at dksX2_begins_0 11 rfl rfl)
theorem dX2_begins_12 : decode cX2_begins 12 = .ok (.iconst 0, 1) := dk_3 (dk_at dksX2_begins_0 12 rfl rfl)
theorem dX2_begins_13 : decode cX2_begins 13 = .ok (.iastore, 1) := dk_79 (dk_at dksX2_begins_0 13 rfl rfl)
theorem dX2_begins_14 : decode cX2_begins 14 = .ok (.aload_n 0, 1) := dk_42 (dk_at dksX2_begins_0 14 rfl rfl)
theorem dX2_begins_15 : decode cX2_begins 15 = .ok (.getfield 114, 3) := dk_180 0 114 (dk_at dksX2_begins_0 15 rfl rfl)
theorem dX2_begins_18 : decode cX2_begins 18 = .ok (.iload_n 2, 1) := dk_28 (dk_at dksX2_begins_0 18 rfl rfl)
theorem dX2_begins_19 : decode cX2_begins 19 = .ok (.bipush (-4), 2) := dk_16 252 (dk_at dksX2_begins_0 19 rfl rfl)
theorem dX2_begins_21 : decode cX2_begins 21 = .ok (.iastore, 1) := dk_79 (dk_at dksX2_begins_0 21 rfl rfl)
theorem dX2_begins_22 : decode cX2_begins 22 = .ok (.aload_n 0, 1) := dk_42 (dk_at dksX2_begins_0 22 rfl rfl)
theorem dX2_begins_23 : decode cX2_begins 23 = .ok (.getfield 108, 3) := dk_180 0 108 (dk_at dksX2_begins_1 0 rfl rfl)
theorem dX2_begins_26 : decode cX2_begins 26 = .ok (.iload_n 2, 1) := dk_28 (dk_at dksX2_begins_1 3 rfl rfl)
theorem dX2_begins_27 : decode cX2_begins 27 = .ok (.aload_n 0, 1) := dk_42 (dk_at dksX2_begins_1 4 rfl rfl)
theorem dX2_begins_28 : decode cX2_begins 28 = .ok (.iconst 2, 1) := dk_5 (dk_at dksX2_begins_1 5 rfl rfl)
theorem dX2_begins_29 : decode cX2_begins 29 = .ok (.iload_n 1, 1) := dk_27 (dk_at dksX2_begins_1 6 rfl rfl)
theorem dX2_begins_30 : decode cX2_begins 30 = .ok (.imul, 1) := dk_104 (dk_at dksX2_begins_1 7 rfl rfl)
theorem dX2_begins_31 : decode cX2_begins 31 = .ok (.iconst 1, 1) := dk_4 (dk_at dksX2_begins_1 8 rfl rfl)
theorem dX2_begins_32 : decode cX2_begins 32 = .ok (.iadd, 1) := dk_96 (dk_at dksX2_begins_1 9 rfl rfl)
theorem dX2_begins_33 : decode cX2_begins 33 = .ok (.invokevirtual 328, 3) := dk_182 1 72 (dk_at dksX2_begins_1 10 rfl rfl)
theorem dX2_begins_36 : decode cX2_begins 36 = .ok (.lastore, 1) := dk_80 (dk_at dksX2_begins_1 13 rfl rfl)
theorem dX2_begins_37 : decode cX2_begins 37 = .ok (.aload_n 0, 1) := dk_42 (dk_at dksX2_begins_1 14 rfl rfl)
theorem dX2_begins_38 : decode cX2_begins 38 = .ok (.getfield 23, 3) := dk_180 0 23 (dk_at dksX2_begins_1 15 rfl rfl)
theorem dX2_begins_41 : decode cX2_begins 41 = .ok (.iconst 2, 1) := dk_5 (dk_at dksX2_begins_1 18 rfl rfl)
theorem dX2_begins_42 : decode cX2_begins 42 = .ok (.iload_n 1, 1) := dk_27 (dk_at dksX2_begins_1 19 rfl rfl)
theorem dX2_begins_43 : decode cX2_begins 43 = .ok (.imul, 1) := dk_104 (dk_at dksX2_begins_1 20 rfl rfl)
theorem dX2_begins_44 : decode cX2_begins 44 = .ok (.iaload, 1) := dk_46 (dk_at dksX2_begins_1 21 rfl rfl)
theorem dX2_begins_45 : decode cX2_begins 45 = .ok (.ifCond .ne 13, 3) := dk_154 0 13 (dk_at dksX2_begins_2 0 rfl rfl)
theorem dX2_begins_48 : decode cX2_begins 48 = .ok (.aload_n 0, 1) := dk_42 (dk_at dksX2_begins_2 3 rfl rfl)
theorem dX2_begins_49 : decode cX2_begins 49 = .ok (.iload_n 1, 1) := dk_27 (dk_at dksX2_begins_2 4 rfl rfl)
theorem dX2_begins_50 : decode cX2_begins 50 = .ok (.iload_n 2, 1) := dk_28 (dk_at dksX2_begins_2 5 rfl rfl)
theorem dX2_begins_51 : decode cX2_begins 51 = .ok (.iload_n 2, 1) := dk_28 (dk_at dksX2_begins_2 6 rfl rfl)
theorem dX2_begins_52 : decode cX2_begins 52 = .ok (.invokevirtual 349, 3) := dk_182 1 93 (dk_at dksX2_begins_2 7 rfl rfl)
theorem dX2_begins_55 : decode cX2_begins 55 = .ok (.goto 14, 3) := dk_167 0 14 (dk_at dksX2_begins_2 10 rfl rfl)
theorem dX2_begins_58 : decode cX2_begins 58 = .ok (.aload_n 0, 1) := dk_42 (dk_at dksX2_begins_2 13 rfl rfl)
theorem dX2_begins_59 : decode cX2_begins 59 = .ok (.iconst 2, 1) := dk_5 (dk_at dksX2_begins_2 14 rfl rfl)
theorem dX2_begins_60 : decode cX2_begins 60 = .ok (.iload_n 1, 1) := dk_27 (dk_at dksX2_begins_2 15 rfl rfl)
theorem dX2_begins_61 : decode cX2_begins 61 = .ok (.imul, 1) := dk_104 (dk_at dksX2_begins_2 16 rfl rfl)
theorem dX2_begins_62 : decode cX2_begins 62 = .ok (.iconst 1, 1) := dk_4 (dk_at dksX2_begins_2 17 rfl rfl)
theorem dX2_begins_63 : decode cX2_begins 63 = .ok (.iadd, 1) := dk_96 (dk_at dksX2_begins_2 18 rfl rfl)
theorem dX2_begins_64 : decode cX2_begins 64 = .ok (.iload_n 2, 1) := dk_28 (dk_at dksX2_begins_2 19 rfl rfl)
theorem dX2_begins_65 : decode cX2_begins 65 = .ok (.iload_n 2, 1) := dk_28 (dk_at dksX2_begins_2 20 rfl rfl)
theorem dX2_begins_66 : decode cX2_begins 66 = .ok (.invokevirtual 345, 3) := dk_182 1 89 (dk_at dksX2_begins_2 21 rfl rfl)
theorem dX2_begins_69 : decode cX2_begins 69 = .ok (.return_, 1) := dk_177 (dk_at dksX2_begins_3 0 rfl rfl)
abbrev cX2_verdictBy : ByteArray := prog_21_method_62_code
def yX2_verdictBy : MethodName := ⟨RX2, "verdictBy", "(IIIJ)I"⟩
def dkwX2_verdictBy_3 : List UInt8 := [172]
abbrev dktX2_verdictBy_3 : List UInt8 := dkwX2_verdictBy_3 ++ []
def dkwX2_verdictBy_2 : List UInt8 := [182, 1, 84, 153, 0, 5, 3, 172, 42, 28, 29, 16, 252, 182, 1, 108, 153, 0, 7, 4, 167, 0, 4, 6]
abbrev dktX2_verdictBy_2 : List UInt8 := dkwX2_verdictBy_2 ++ dktX2_verdictBy_3
def dkwX2_verdictBy_1 : List UInt8 := [182, 1, 108, 153, 0, 5, 5, 172, 42, 28, 29, 3, 182, 1, 108, 154, 0, 15, 42, 5, 27, 104, 22, 4]
abbrev dktX2_verdictBy_1 : List UInt8 := dkwX2_verdictBy_1 ++ dktX2_verdictBy_2
def dkwX2_verdictBy_0 : List UInt8 := [42, 27, 42, 180, 0, 35, 4, 29, 96, 46, 182, 1, 59, 153, 0, 5, 7, 172, 42, 28, 29, 5]
abbrev dktX2_verdictBy_0 : List UInt8 := dkwX2_verdictBy_0 ++ dktX2_verdictBy_1
theorem dksX2_verdictBy_0 : cX2_verdictBy.data.toList.drop 0 = dktX2_verdictBy_0 := by decide +kernel
theorem dksX2_verdictBy_1 : cX2_verdictBy.data.toList.drop 22 = dktX2_verdictBy_1 := dk_seg dksX2_verdictBy_0 22 rfl rfl
theorem dksX2_verdictBy_2 : cX2_verdictBy.data.toList.drop 46 = dktX2_verdictBy_2 := dk_seg dksX2_verdictBy_1 24 rfl rfl
theorem dksX2_verdictBy_3 : cX2_verdictBy.data.toList.drop 70 = dktX2_verdictBy_3 := dk_seg dksX2_verdictBy_2 24 rfl rfl
theorem dX2_verdictBy_0 : decode cX2_verdictBy 0 = .ok (.aload_n 0, 1) := dk_42 (dk_at dksX2_verdictBy_0 0 rfl rfl)
theorem dX2_verdictBy_1 : decode cX2_verdictBy 1 = .ok (.iload_n 1, 1) := dk_27 (dk_at dksX2_verdictBy_0 1 rfl rfl)
theorem dX2_verdictBy_2 : decode cX2_verdictBy 2 = .ok (.aload_n 0, 1) := dk_42 (dk_at dksX2_verdictBy_0 2 rfl rfl)
theorem dX2_verdictBy_3 : decode cX2_verdictBy 3 = .ok (.getfield 35, 3) := dk_180 0 35 (dk_at dksX2_verdictBy_0 3 rfl rfl)
theorem dX2_verdictBy_6 : decode cX2_verdictBy 6 = .ok (.iconst 1, 1) := dk_4 (dk_at dksX2_verdictBy_0 6 rfl rfl)
theorem dX2_verdictBy_7 : decode cX2_verdictBy 7 = .ok (.iload_n 3, 1) := dk_29 (dk_at dksX2_verdictBy_0 7 rfl rfl)
theorem dX2_verdictBy_8 : decode cX2_verdictBy 8 = .ok (.iadd, 1) := dk_96 (dk_at dksX2_verdictBy_0 8 rfl rfl)
theorem dX2_verdictBy_9 : decode cX2_verdictBy 9 = .ok (.iaload, 1) := dk_46 (dk_at dksX2_verdictBy_0 9 rfl rfl)
theorem dX2_verdictBy_10 : decode cX2_verdictBy 10 = .ok (.invokevirtual 315, 3) := dk_182 1 59 (dk_at dksX2_verdictBy_0 10 rfl rfl)
theorem dX2_verdictBy_13 : decode cX2_verdictBy 13 = .ok (.ifCond .eq 5, 3) := dk_153 0 5 (dk_at dksX2_verdictBy_0 13 rfl rfl)
theorem dX2_verdictBy_16 : decode cX2_verdictBy 16 = .ok (.iconst 4, 1) := dk_7 (dk_at dksX2_verdictBy_0 16 rfl rfl)
theorem dX2_verdictBy_17 : decode cX2_verdictBy 17 = .ok (.ireturn, 1) := dk_172 (dk_at dksX2_verdictBy_0 17 rfl rfl)
theorem dX2_verdictBy_18 : decode cX2_verdictBy 18 = .ok (.aload_n 0, 1) := dk_42 (dk_at dksX2_verdictBy_0 18 rfl rfl)
theorem dX2_verdictBy_19 : decode cX2_verdictBy 19 = .ok (.iload_n 2, 1) := dk_28 (dk_at dksX2_verdictBy_0 19 rfl rfl)
theorem dX2_verdictBy_20 : decode cX2_verdictBy 20 = .ok (.iload_n 3, 1) := dk_29 (dk_at dksX2_verdictBy_0 20 rfl rfl)
theorem dX2_verdictBy_21 : decode cX2_verdictBy 21 = .ok (.iconst 2, 1) := dk_5 (dk_at dksX2_verdictBy_0 21 rfl rfl)
theorem dX2_verdictBy_22 : decode cX2_verdictBy 22 = .ok (.invokevirtual 364, 3) := dk_182 1 108 (dk_at dksX2_verdictBy_1 0 rfl rfl)
theorem dX2_verdictBy_25 : decode cX2_verdictBy 25 = .ok (.ifCond .eq 5, 3) := dk_153 0 5 (dk_at dksX2_verdictBy_1 3 rfl rfl)
theorem dX2_verdictBy_28 : decode cX2_verdictBy 28 = .ok (.iconst 2, 1) := dk_5 (dk_at dksX2_verdictBy_1 6 rfl rfl)
theorem dX2_verdictBy_29 : decode cX2_verdictBy 29 = .ok (.ireturn, 1) := dk_172 (dk_at dksX2_verdictBy_1 7 rfl rfl)
theorem dX2_verdictBy_30 : decode cX2_verdictBy 30 = .ok (.aload_n 0, 1) := dk_42 (dk_at dksX2_verdictBy_1 8 rfl rfl)
theorem dX2_verdictBy_31 : decode cX2_verdictBy 31 = .ok (.iload_n 2, 1) := dk_28 (dk_at dksX2_verdictBy_1 9 rfl rfl)
theorem dX2_verdictBy_32 : decode cX2_verdictBy 32 = .ok (.iload_n 3, 1) := dk_29 (dk_at dksX2_verdictBy_1 10 rfl rfl)
theorem dX2_verdictBy_33 : decode cX2_verdictBy 33 = .ok (.iconst 0, 1) := dk_3 (dk_at dksX2_verdictBy_1 11 rfl rfl)
theorem dX2_verdictBy_34 : decode cX2_verdictBy 34 = .ok (.invokevirtual 364, 3) := dk_182 1 108 (dk_at dksX2_verdictBy_1 12 rfl rfl)
theorem dX2_verdictBy_37 : decode cX2_verdictBy 37 = .ok (.ifCond .ne 15, 3) := dk_154 0 15 (dk_at dksX2_verdictBy_1 15 rfl rfl)
theorem dX2_verdictBy_40 : decode cX2_verdictBy 40 = .ok (.aload_n 0, 1) := dk_42 (dk_at dksX2_verdictBy_1 18 rfl rfl)
theorem dX2_verdictBy_41 : decode cX2_verdictBy 41 = .ok (.iconst 2, 1) := dk_5 (dk_at dksX2_verdictBy_1 19 rfl rfl)
theorem dX2_verdictBy_42 : decode cX2_verdictBy 42 = .ok (.iload_n 1, 1) := dk_27 (dk_at dksX2_verdictBy_1 20 rfl rfl)
theorem dX2_verdictBy_43 : decode cX2_verdictBy 43 = .ok (.imul, 1) := dk_104 (dk_at dksX2_verdictBy_1 21 rfl rfl)
theorem dX2_verdictBy_44 : decode cX2_verdictBy 44 = .ok (.lload 4, 2) := dk_22 4 (dk_at dksX2_verdictBy_1 22 rfl rfl)
theorem dX2_verdictBy_46 : decode cX2_verdictBy 46 = .ok (.invokevirtual 340, 3) := dk_182 1 84 (dk_at dksX2_verdictBy_2 0 rfl rfl)
theorem dX2_verdictBy_49 : decode cX2_verdictBy 49 = .ok (.ifCond .eq 5, 3) := dk_153 0 5 (dk_at dksX2_verdictBy_2 3 rfl rfl)
theorem dX2_verdictBy_52 : decode cX2_verdictBy 52 = .ok (.iconst 0, 1) := dk_3 (dk_at dksX2_verdictBy_2 6 rfl rfl)
theorem dX2_verdictBy_53 : decode cX2_verdictBy 53 = .ok (.ireturn, 1) := dk_172 (dk_at dksX2_verdictBy_2 7 rfl rfl)
theorem dX2_verdictBy_54 : decode cX2_verdictBy 54 = .ok (.aload_n 0, 1) := dk_42 (dk_at dksX2_verdictBy_2 8 rfl rfl)
theorem dX2_verdictBy_55 : decode cX2_verdictBy 55 = .ok (.iload_n 2, 1) := dk_28 (dk_at dksX2_verdictBy_2 9 rfl rfl)
theorem dX2_verdictBy_56 : decode cX2_verdictBy 56 = .ok (.iload_n 3, 1) := dk_29 (dk_at dksX2_verdictBy_2 10 rfl rfl)
theorem dX2_verdictBy_57 : decode cX2_verdictBy 57 = .ok (.bipush (-4), 2) := dk_16 252 (dk_at dksX2_verdictBy_2 11 rfl rfl)
theorem dX2_verdictBy_59 : decode cX2_verdictBy 59 = .ok (.invokevirtual 364, 3) := dk_182 1 108 (dk_at dksX2_verdictBy_2 13 rfl rfl)
theorem dX2_verdictBy_62 : decode cX2_verdictBy 62 = .ok (.ifCond .eq 7, 3) := dk_153 0 7 (dk_at dksX2_verdictBy_2 16 rfl rfl)
theorem dX2_verdictBy_65 : decode cX2_verdictBy 65 = .ok (.iconst 1, 1) := dk_4 (dk_at dksX2_verdictBy_2 19 rfl rfl)
theorem dX2_verdictBy_66 : decode cX2_verdictBy 66 = .ok (.goto 4, 3) := dk_167 0 4 (dk_at dksX2_verdictBy_2 20 rfl rfl)
theorem dX2_verdictBy_69 : decode cX2_verdictBy 69 = .ok (.iconst 3, 1) := dk_6 (dk_at dksX2_verdictBy_2 23 rfl rfl)
theorem dX2_verdictBy_70 : decode cX2_verdictBy 70 = .ok (.ireturn, 1) := dk_172 (dk_at dksX2_verdictBy_3 0 rfl rfl)
abbrev cX2_isAny : ByteArray := prog_21_method_60_code
def yX2_isAny : MethodName := ⟨RX2, "isAny", "(III)Z"⟩
def dkwX2_isAny_2 : List UInt8 := [3, 54, 4, 132, 5, 1, 167, 255, 208, 21, 4, 172]
abbrev dktX2_isAny_2 : List UInt8 := dkwX2_isAny_2 ++ []
def dkwX2_isAny_1 : List UInt8 := [153, 0, 24, 29, 16, 252, 159, 0, 14, 42, 180, 0, 111, 21, 5, 46, 29, 160, 0, 7, 4, 167, 0, 4]
abbrev dktX2_isAny_1 : List UInt8 := dkwX2_isAny_1 ++ dktX2_isAny_2
def dkwX2_isAny_0 : List UInt8 := [3, 54, 4, 27, 54, 5, 21, 5, 28, 163, 0, 48, 21, 4, 154, 0, 30, 42, 180, 0, 117, 21, 5, 51]
abbrev dktX2_isAny_0 : List UInt8 := dkwX2_isAny_0 ++ dktX2_isAny_1
theorem dksX2_isAny_0 : cX2_isAny.data.toList.drop 0 = dktX2_isAny_0 := by decide +kernel
theorem dksX2_isAny_1 : cX2_isAny.data.toList.drop 24 = dktX2_isAny_1 := dk_seg dksX2_isAny_0 24 rfl rfl
theorem dksX2_isAny_2 : cX2_isAny.data.toList.drop 48 = dktX2_isAny_2 := dk_seg dksX2_isAny_1 24 rfl rfl
theorem dX2_isAny_0 : decode cX2_isAny 0 = .ok (.iconst 0, 1) := dk_3 (dk_at dksX2_isAny_0 0 rfl rfl)
theorem dX2_isAny_1 : decode cX2_isAny 1 = .ok (.istore 4, 2) := dk_54 4 (dk_at dksX2_isAny_0 1 rfl rfl)
theorem dX2_isAny_3 : decode cX2_isAny 3 = .ok (.iload_n 1, 1) := dk_27 (dk_at dksX2_isAny_0 3 rfl rfl)
theorem dX2_isAny_4 : decode cX2_isAny 4 = .ok (.istore 5, 2) := dk_54 5 (dk_at dksX2_isAny_0 4 rfl rfl)
theorem dX2_isAny_6 : decode cX2_isAny 6 = .ok (.iload 5, 2) := dk_21 5 (dk_at dksX2_isAny_0 6 rfl rfl)
theorem dX2_isAny_8 : decode cX2_isAny 8 = .ok (.iload_n 2, 1) := dk_28 (dk_at dksX2_isAny_0 8 rfl rfl)
theorem dX2_isAny_9 : decode cX2_isAny 9 = .ok (.if_icmp .gt 48, 3) := dk_163 0 48 (dk_at dksX2_isAny_0 9 rfl rfl)
theorem dX2_isAny_12 : decode cX2_isAny 12 = .ok (.iload 4, 2) := dk_21 4 (dk_at dksX2_isAny_0 12 rfl rfl)
theorem dX2_isAny_14 : decode cX2_isAny 14 = .ok (.ifCond .ne 30, 3) := dk_154 0 30 (dk_at dksX2_isAny_0 14 rfl rfl)
theorem dX2_isAny_17 : decode cX2_isAny 17 = .ok (.aload_n 0, 1) := dk_42 (dk_at dksX2_isAny_0 17 rfl rfl)
theorem dX2_isAny_18 : decode cX2_isAny 18 = .ok (.getfield 117, 3) := dk_180 0 117 (dk_at dksX2_isAny_0 18 rfl rfl)
theorem dX2_isAny_21 : decode cX2_isAny 21 = .ok (.iload 5, 2) := dk_21 5 (dk_at dksX2_isAny_0 21 rfl rfl)
theorem dX2_isAny_23 : decode cX2_isAny 23 = .ok (.baload, 1) := dk_51 (dk_at dksX2_isAny_0 23 rfl rfl)
theorem dX2_isAny_24 : decode cX2_isAny 24 = .ok (.ifCond .eq 24, 3) := dk_153 0 24 (dk_at dksX2_isAny_1 0 rfl rfl)
theorem dX2_isAny_27 : decode cX2_isAny 27 = .ok (.iload_n 3, 1) := dk_29 (dk_at dksX2_isAny_1 3 rfl rfl)
theorem dX2_isAny_28 : decode cX2_isAny 28 = .ok (.bipush (-4), 2) := dk_16 252 (dk_at dksX2_isAny_1 4 rfl rfl)
theorem dX2_isAny_30 : decode cX2_isAny 30 = .ok (.if_icmp .eq 14, 3) := dk_159 0 14 (dk_at dksX2_isAny_1 6 rfl rfl)
theorem dX2_isAny_33 : decode cX2_isAny 33 = .ok (.aload_n 0, 1) := dk_42 (dk_at dksX2_isAny_1 9 rfl rfl)
theorem dX2_isAny_34 : decode cX2_isAny 34 = .ok (.getfield 111, 3) := dk_180 0 111 (dk_at dksX2_isAny_1 10 rfl rfl)
theorem dX2_isAny_37 : decode cX2_isAny 37 = .ok (.iload 5, 2) := dk_21 5 (dk_at dksX2_isAny_1 13 rfl rfl)
theorem dX2_isAny_39 : decode cX2_isAny 39 = .ok (.iaload, 1) := dk_46 (dk_at dksX2_isAny_1 15 rfl rfl)
theorem dX2_isAny_40 : decode cX2_isAny 40 = .ok (.iload_n 3, 1) := dk_29 (dk_at dksX2_isAny_1 16 rfl rfl)
theorem dX2_isAny_41 : decode cX2_isAny 41 = .ok (.if_icmp .ne 7, 3) := dk_160 0 7 (dk_at dksX2_isAny_1 17 rfl rfl)
theorem dX2_isAny_44 : decode cX2_isAny 44 = .ok (.iconst 1, 1) := dk_4 (dk_at dksX2_isAny_1 20 rfl rfl)
theorem dX2_isAny_45 : decode cX2_isAny 45 = .ok (.goto 4, 3) := dk_167 0 4 (dk_at dksX2_isAny_1 21 rfl rfl)
theorem dX2_isAny_48 : decode cX2_isAny 48 = .ok (.iconst 0, 1) := dk_3 (dk_at dksX2_isAny_2 0 rfl rfl)
theorem dX2_isAny_49 : decode cX2_isAny 49 = .ok (.istore 4, 2) := dk_54 4 (dk_at dksX2_isAny_2 1 rfl rfl)
theorem dX2_isAny_51 : decode cX2_isAny 51 = .ok (.iinc 5 1, 3) := dk_132 5 1 (dk_at dksX2_isAny_2 3 rfl rfl)
theorem dX2_isAny_54 : decode cX2_isAny 54 = .ok (.goto (-48), 3) := dk_167 255 208 (dk_at dksX2_isAny_2 6 rfl rfl)
theorem dX2_isAny_57 : decode cX2_isAny 57 = .ok (.iload 4, 2) := dk_21 4 (dk_at dksX2_isAny_2 9 rfl rfl)
theorem dX2_isAny_59 : decode cX2_isAny 59 = .ok (.ireturn, 1) := dk_172 (dk_at dksX2_isAny_2 11 rfl rfl)
abbrev cX2_decided : ByteArray := prog_21_method_67_code
def yX2_decided : MethodName := ⟨RX2, "decided", "(II)I"⟩
def dkwX2_decided_0 : List UInt8 := [42, 27, 28, 182, 1, 117, 153, 0, 10, 42, 180, 1, 99, 167, 0, 4, 2, 172]
abbrev dktX2_decided_0 : List UInt8 := dkwX2_decided_0 ++ []
theorem dksX2_decided_0 : cX2_decided.data.toList.drop 0 = dktX2_decided_0 := by decide +kernel
theorem dX2_decided_0 : decode cX2_decided 0 = .ok (.aload_n 0, 1) := dk_42 (dk_at dksX2_decided_0 0 rfl rfl)
theorem dX2_decided_1 : decode cX2_decided 1 = .ok (.iload_n 1, 1) := dk_27 (dk_at dksX2_decided_0 1 rfl rfl)
theorem dX2_decided_2 : decode cX2_decided 2 = .ok (.iload_n 2, 1) := dk_28 (dk_at dksX2_decided_0 2 rfl rfl)
theorem dX2_decided_3 : decode cX2_decided 3 = .ok (.invokevirtual 373, 3) := dk_182 1 117 (dk_at dksX2_decided_0 3 rfl rfl)
theorem dX2_decided_6 : decode cX2_decided 6 = .ok (.ifCond .eq 10, 3) := dk_153 0 10 (dk_at dksX2_decided_0 6 rfl rfl)
theorem dX2_decided_9 : decode cX2_decided 9 = .ok (.aload_n 0, 1) := dk_42 (dk_at dksX2_decided_0 9 rfl rfl)
theorem dX2_decided_10 : decode cX2_decided 10 = .ok (.getfield 355, 3) := dk_180 1 99 (dk_at dksX2_decided_0 10 rfl rfl)
theorem dX2_decided_13 : decode cX2_decided 13 = .ok (.goto 4, 3) := dk_167 0 4 (dk_at dksX2_decided_0 13 rfl rfl)
theorem dX2_decided_16 : decode cX2_decided 16 = .ok (.iconst (-1), 1) := dk_2 (dk_at dksX2_decided_0 16 rfl rfl)
theorem dX2_decided_17 : decode cX2_decided 17 = .ok (.ireturn, 1) := dk_172 (dk_at dksX2_decided_0 17 rfl rfl)
abbrev cX2_duties : ByteArray := prog_21_method_68_code
def yX2_duties : MethodName := ⟨RX2, "duties", "(II)I"⟩
def dkwX2_duties_0 : List UInt8 := [42, 27, 28, 182, 1, 117, 153, 0, 11, 42, 28, 182, 1, 120, 167, 0, 4, 2, 172]
abbrev dktX2_duties_0 : List UInt8 := dkwX2_duties_0 ++ []
theorem dksX2_duties_0 : cX2_duties.data.toList.drop 0 = dktX2_duties_0 := by decide +kernel
theorem dX2_duties_0 : decode cX2_duties 0 = .ok (.aload_n 0, 1) := dk_42 (dk_at dksX2_duties_0 0 rfl rfl)
theorem dX2_duties_1 : decode cX2_duties 1 = .ok (.iload_n 1, 1) := dk_27 (dk_at dksX2_duties_0 1 rfl rfl)
theorem dX2_duties_2 : decode cX2_duties 2 = .ok (.iload_n 2, 1) := dk_28 (dk_at dksX2_duties_0 2 rfl rfl)
theorem dX2_duties_3 : decode cX2_duties 3 = .ok (.invokevirtual 373, 3) := dk_182 1 117 (dk_at dksX2_duties_0 3 rfl rfl)
theorem dX2_duties_6 : decode cX2_duties 6 = .ok (.ifCond .eq 11, 3) := dk_153 0 11 (dk_at dksX2_duties_0 6 rfl rfl)
theorem dX2_duties_9 : decode cX2_duties 9 = .ok (.aload_n 0, 1) := dk_42 (dk_at dksX2_duties_0 9 rfl rfl)
theorem dX2_duties_10 : decode cX2_duties 10 = .ok (.iload_n 2, 1) := dk_28 (dk_at dksX2_duties_0 10 rfl rfl)
theorem dX2_duties_11 : decode cX2_duties 11 = .ok (.invokevirtual 376, 3) := dk_182 1 120 (dk_at dksX2_duties_0 11 rfl rfl)
theorem dX2_duties_14 : decode cX2_duties 14 = .ok (.goto 4, 3) := dk_167 0 4 (dk_at dksX2_duties_0 14 rfl rfl)
theorem dX2_duties_17 : decode cX2_duties 17 = .ok (.iconst (-1), 1) := dk_2 (dk_at dksX2_duties_0 17 rfl rfl)
theorem dX2_duties_18 : decode cX2_duties 18 = .ok (.ireturn, 1) := dk_172 (dk_at dksX2_duties_0 18 rfl rfl)
abbrev cX2_dutiesFrom : ByteArray := prog_21_method_65_code
def yX2_dutiesFrom : MethodName := ⟨RX2, "dutiesFrom", "(I)I"⟩
def dkwX2_dutiesFrom_1 : List UInt8 := [96, 61, 132, 3, 1, 167, 255, 231, 28, 172]
abbrev dktX2_dutiesFrom_1 : List UInt8 := dkwX2_dutiesFrom_1 ++ []
def dkwX2_dutiesFrom_0 : List UInt8 := [3, 61, 27, 62, 29, 42, 180, 0, 35, 3, 46, 162, 0, 21, 28, 42, 180, 0, 117, 29, 51, 184, 0, 194]
abbrev dktX2_dutiesFrom_0 : List UInt8 := dkwX2_dutiesFrom_0 ++ dktX2_dutiesFrom_1
theorem dksX2_dutiesFrom_0 : cX2_dutiesFrom.data.toList.drop 0 = dktX2_dutiesFrom_0 := by decide +kernel
theorem dksX2_dutiesFrom_1 : cX2_dutiesFrom.data.toList.drop 24 = dktX2_dutiesFrom_1 := dk_seg dksX2_dutiesFrom_0 24 rfl rfl
theorem dX2_dutiesFrom_0 : decode cX2_dutiesFrom 0 = .ok (.iconst 0, 1) := dk_3 (dk_at dksX2_dutiesFrom_0 0 rfl rfl)
theorem dX2_dutiesFrom_1 : decode cX2_dutiesFrom 1 = .ok (.istore_n 2, 1) := dk_61 (dk_at dksX2_dutiesFrom_0 1 rfl rfl)
theorem dX2_dutiesFrom_2 : decode cX2_dutiesFrom 2 = .ok (.iload_n 1, 1) := dk_27 (dk_at dksX2_dutiesFrom_0 2 rfl rfl)
theorem dX2_dutiesFrom_3 : decode cX2_dutiesFrom 3 = .ok (.istore_n 3, 1) := dk_62 (dk_at dksX2_dutiesFrom_0 3 rfl rfl)
theorem dX2_dutiesFrom_4 : decode cX2_dutiesFrom 4 = .ok (.iload_n 3, 1) := dk_29 (dk_at dksX2_dutiesFrom_0 4 rfl rfl)
theorem dX2_dutiesFrom_5 : decode cX2_dutiesFrom 5 = .ok (.aload_n 0, 1) := dk_42 (dk_at dksX2_dutiesFrom_0 5 rfl rfl)
theorem dX2_dutiesFrom_6 : decode cX2_dutiesFrom 6 = .ok (.getfield 35, 3) := dk_180 0 35 (dk_at dksX2_dutiesFrom_0 6 rfl rfl)
theorem dX2_dutiesFrom_9 : decode cX2_dutiesFrom 9 = .ok (.iconst 0, 1) := dk_3 (dk_at dksX2_dutiesFrom_0 9 rfl rfl)
theorem dX2_dutiesFrom_10 : decode cX2_dutiesFrom 10 = .ok (.iaload, 1) := dk_46 (dk_at dksX2_dutiesFrom_0 10 rfl rfl)
theorem dX2_dutiesFrom_11 : decode cX2_dutiesFrom 11 = .ok (.if_icmp .ge 21, 3) := dk_162 0 21 (dk_at dksX2_dutiesFrom_0 11 rfl rfl)
theorem dX2_dutiesFrom_14 : decode cX2_dutiesFrom 14 = .ok (.iload_n 2, 1) := dk_28 (dk_at dksX2_dutiesFrom_0 14 rfl rfl)
theorem dX2_dutiesFrom_15 : decode cX2_dutiesFrom 15 = .ok (.aload_n 0, 1) := dk_42 (dk_at dksX2_dutiesFrom_0 15 rfl rfl)
theorem dX2_dutiesFrom_16 : decode cX2_dutiesFrom 16 = .ok (.getfield 117, 3) := dk_180 0 117 (dk_at dksX2_dutiesFrom_0 16 rfl rfl)
theorem dX2_dutiesFrom_19 : decode cX2_dutiesFrom 19 = .ok (.iload_n 3, 1) := dk_29 (dk_at dksX2_dutiesFrom_0 19 rfl rfl)
theorem dX2_dutiesFrom_20 : decode cX2_dutiesFrom 20 = .ok (.baload, 1) := dk_51 (dk_at dksX2_dutiesFrom_0 20 rfl rfl)
theorem dX2_dutiesFrom_21 : decode cX2_dutiesFrom 21 = .ok (.invokestatic 194, 3) := dk_184 0 194 (dk_at dksX2_dutiesFrom_0 21 rfl rfl)
theorem dX2_dutiesFrom_24 : decode cX2_dutiesFrom 24 = .ok (.iadd, 1) := dk_96 (dk_at dksX2_dutiesFrom_1 0 rfl rfl)
theorem dX2_dutiesFrom_25 : decode cX2_dutiesFrom 25 = .ok (.istore_n 2, 1) := dk_61 (dk_at dksX2_dutiesFrom_1 1 rfl rfl)
theorem dX2_dutiesFrom_26 : decode cX2_dutiesFrom 26 = .ok (.iinc 3 1, 3) := dk_132 3 1 (dk_at dksX2_dutiesFrom_1 2 rfl rfl)
theorem dX2_dutiesFrom_29 : decode cX2_dutiesFrom 29 = .ok (.goto (-25), 3) := dk_167 255 231 (dk_at dksX2_dutiesFrom_1 5 rfl rfl)
theorem dX2_dutiesFrom_32 : decode cX2_dutiesFrom 32 = .ok (.iload_n 2, 1) := dk_28 (dk_at dksX2_dutiesFrom_1 8 rfl rfl)
theorem dX2_dutiesFrom_33 : decode cX2_dutiesFrom 33 = .ok (.ireturn, 1) := dk_172 (dk_at dksX2_dutiesFrom_1 9 rfl rfl)
abbrev cX2_duty : ByteArray := prog_21_method_69_code
def yX2_duty : MethodName := ⟨RX2, "duty", "(IIII)I"⟩
def dkwX2_duty_4 : List UInt8 := [132, 5, 255, 132, 6, 1, 167, 255, 190, 16, 252, 172]
abbrev dktX2_duty_4 : List UInt8 := dkwX2_duty_4 ++ []
def dkwX2_duty_3 : List UInt8 := [21, 4, 4, 160, 0, 13, 42, 180, 0, 111, 21, 6, 46, 167, 0, 10, 42, 180, 0, 114, 21, 6, 46, 172]
abbrev dktX2_duty_3 : List UInt8 := dkwX2_duty_3 ++ dktX2_duty_4
def dkwX2_duty_2 : List UInt8 := [180, 0, 117, 21, 6, 51, 153, 0, 45, 21, 5, 154, 0, 37, 21, 4, 154, 0, 8, 21, 6, 167, 0, 26]
abbrev dktX2_duty_2 : List UInt8 := dkwX2_duty_2 ++ dktX2_duty_3
def dkwX2_duty_1 : List UInt8 := [154, 0, 5, 2, 172, 29, 54, 5, 28, 54, 6, 21, 6, 42, 180, 0, 35, 3, 46, 162, 0, 61, 42]
abbrev dktX2_duty_1 : List UInt8 := dkwX2_duty_1 ++ dktX2_duty_2
def dkwX2_duty_0 : List UInt8 := [42, 27, 28, 182, 1, 117, 153, 0, 20, 29, 155, 0, 16, 21, 4, 133, 9, 20, 1, 51, 184, 0, 131]
abbrev dktX2_duty_0 : List UInt8 := dkwX2_duty_0 ++ dktX2_duty_1
theorem dksX2_duty_0 : cX2_duty.data.toList.drop 0 = dktX2_duty_0 := by decide +kernel
theorem dksX2_duty_1 : cX2_duty.data.toList.drop 23 = dktX2_duty_1 := dk_seg dksX2_duty_0 23 rfl rfl
theorem dksX2_duty_2 : cX2_duty.data.toList.drop 46 = dktX2_duty_2 := dk_seg dksX2_duty_1 23 rfl rfl
theorem dksX2_duty_3 : cX2_duty.data.toList.drop 70 = dktX2_duty_3 := dk_seg dksX2_duty_2 24 rfl rfl
theorem dksX2_duty_4 : cX2_duty.data.toList.drop 94 = dktX2_duty_4 := dk_seg dksX2_duty_3 24 rfl rfl
theorem dX2_duty_0 : decode cX2_duty 0 = .ok (.aload_n 0, 1) := dk_42 (dk_at dksX2_duty_0 0 rfl rfl)
theorem dX2_duty_1 : decode cX2_duty 1 = .ok (.iload_n 1, 1) := dk_27 (dk_at dksX2_duty_0 1 rfl rfl)
theorem dX2_duty_2 : decode cX2_duty 2 = .ok (.iload_n 2, 1) := dk_28 (dk_at dksX2_duty_0 2 rfl rfl)
theorem dX2_duty_3 : decode cX2_duty 3 = .ok (.invokevirtual 373, 3) := dk_182 1 117 (dk_at dksX2_duty_0 3 rfl rfl)
theorem dX2_duty_6 : decode cX2_duty 6 = .ok (.ifCond .eq 20, 3) := dk_153 0 20 (dk_at dksX2_duty_0 6 rfl rfl)
theorem dX2_duty_9 : decode cX2_duty 9 = .ok (.iload_n 3, 1) := dk_29 (dk_at dksX2_duty_0 9 rfl rfl)
theorem dX2_duty_10 : decode cX2_duty 10 = .ok (.ifCond .lt 16, 3) := dk_155 0 16 (dk_at dksX2_duty_0 10 rfl rfl)
theorem dX2_duty_13 : decode cX2_duty 13 = .ok (.iload 4, 2) := dk_21 4 (dk_at dksX2_duty_0 13 rfl rfl)
theorem dX2_duty_15 : decode cX2_duty 15 = .ok (.i2l, 1) := dk_133 (dk_at dksX2_duty_0 15 rfl rfl)
theorem dX2_duty_16 : decode cX2_duty 16 = .ok (.lconst 0, 1) := dk_9 (dk_at dksX2_duty_0 16 rfl rfl)
theorem dX2_duty_17 : decode cX2_duty 17 = .ok (.ldc2_w 307, 3) := dk_20 1 51 (dk_at dksX2_duty_0 17 rfl rfl)
theorem dX2_duty_20 : decode cX2_duty 20 = .ok (.invokestatic 131, 3) := dk_184 0 131 (dk_at dksX2_duty_0 20 rfl rfl)
theorem dX2_duty_23 : decode cX2_duty 23 = .ok (.ifCond .ne 5, 3) := dk_154 0 5 (dk_at dksX2_duty_1 0 rfl rfl)
theorem dX2_duty_26 : decode cX2_duty 26 = .ok (.iconst (-1), 1) := dk_2 (dk_at dksX2_duty_1 3 rfl rfl)
theorem dX2_duty_27 : decode cX2_duty 27 = .ok (.ireturn, 1) := dk_172 (dk_at dksX2_duty_1 4 rfl rfl)
theorem dX2_duty_28 : decode cX2_duty 28 = .ok (.iload_n 3, 1) := dk_29 (dk_at dksX2_duty_1 5 rfl rfl)
theorem dX2_duty_29 : decode cX2_duty 29 = .ok (.istore 5, 2) := dk_54 5 (dk_at dksX2_duty_1 6 rfl rfl)
theorem dX2_duty_31 : decode cX2_duty 31 = .ok (.iload_n 2, 1) := dk_28 (dk_at dksX2_duty_1 8 rfl rfl)
theorem dX2_duty_32 : decode cX2_duty 32 = .ok (.istore 6, 2) := dk_54 6 (dk_at dksX2_duty_1 9 rfl rfl)
theorem dX2_duty_34 : decode cX2_duty 34 = .ok (.iload 6, 2) := dk_21 6 (dk_at dksX2_duty_1 11 rfl rfl)
theorem dX2_duty_36 : decode cX2_duty 36 = .ok (.aload_n 0, 1) := dk_42 (dk_at dksX2_duty_1 13 rfl rfl)
theorem dX2_duty_37 : decode cX2_duty 37 = .ok (.getfield 35, 3) := dk_180 0 35 (dk_at dksX2_duty_1 14 rfl rfl)
theorem dX2_duty_40 : decode cX2_duty 40 = .ok (.iconst 0, 1) := dk_3 (dk_at dksX2_duty_1 17 rfl rfl)
theorem dX2_duty_41 : decode cX2_duty 41 = .ok (.iaload, 1) := dk_46 (dk_at dksX2_duty_1 18 rfl rfl)
theorem dX2_duty_42 : decode cX2_duty 42 = .ok (.if_icmp .ge 61, 3) := dk_162 0 61 (dk_at dksX2_duty_1 19 rfl rfl)
theorem dX2_duty_45 : decode cX2_duty 45 = .ok (.aload_n 0, 1) := dk_42 (dk_at dksX2_duty_1 22 rfl rfl)
theorem dX2_duty_46 : decode cX2_duty 46 = .ok (.getfield 117, 3) := dk_180 0 117 (dk_at dksX2_duty_2 0 rfl rfl)
theorem dX2_duty_49 : decode cX2_duty 49 = .ok (.iload 6, 2) := dk_21 6 (dk_at dksX2_duty_2 3 rfl rfl)
theorem dX2_duty_51 : decode cX2_duty 51 = .ok (.baload, 1) := dk_51 (dk_at dksX2_duty_2 5 rfl rfl)
theorem dX2_duty_52 : decode cX2_duty 52 = .ok (.ifCond .eq 45, 3) := dk_153 0 45 (dk_at dksX2_duty_2 6 rfl rfl)
theorem dX2_duty_55 : decode cX2_duty 55 = .ok (.iload 5, 2) := dk_21 5 (dk_at dksX2_duty_2 9 rfl rfl)
theorem dX2_duty_57 : decode cX2_duty 57 = .ok (.ifCond .ne 37, 3) := dk_154 0 37 (dk_at dksX2_duty_2 11 rfl rfl)
theorem dX2_duty_60 : decode cX2_duty 60 = .ok (.iload 4, 2) := dk_21 4 (dk_at dksX2_duty_2 14 rfl rfl)
theorem dX2_duty_62 : decode cX2_duty 62 = .ok (.ifCond .ne 8, 3) := dk_154 0 8 (dk_at dksX2_duty_2 16 rfl rfl)
theorem dX2_duty_65 : decode cX2_duty 65 = .ok (.iload 6, 2) := dk_21 6 (dk_at dksX2_duty_2 19 rfl rfl)
theorem dX2_duty_67 : decode cX2_duty 67 = .ok (.goto 26, 3) := dk_167 0 26 (dk_at dksX2_duty_2 21 rfl rfl)
theorem dX2_duty_70 : decode cX2_duty 70 = .ok (.iload 4, 2) := dk_21 4 (dk_at dksX2_duty_3 0 rfl rfl)
theorem dX2_duty_72 : decode cX2_duty 72 = .ok (.iconst 1, 1) := dk_4 (dk_at dksX2_duty_3 2 rfl rfl)
theorem dX2_duty_73 : decode cX2_duty 73 = .ok (.if_icmp .ne 13, 3) := dk_160 0 13 (dk_at dksX2_duty_3 3 rfl rfl)
theorem dX2_duty_76 : decode cX2_duty 76 = .ok (.aload_n 0, 1) := dk_42 (dk_at dksX2_duty_3 6 rfl rfl)
theorem dX2_duty_77 : decode cX2_duty 77 = .ok (.getfield 111, 3) := dk_180 0 111 (dk_at dksX2_duty_3 7 rfl rfl)
theorem dX2_duty_80 : decode cX2_duty 80 = .ok (.iload 6, 2) := dk_21 6 (dk_at dksX2_duty_3 10 rfl rfl)
theorem dX2_duty_82 : decode cX2_duty 82 = .ok (.iaload, 1) := dk_46 (dk_at dksX2_duty_3 12 rfl rfl)
theorem dX2_duty_83 : decode cX2_duty 83 = .ok (.goto 10, 3) := dk_167 0 10 (dk_at dksX2_duty_3 13 rfl rfl)
theorem dX2_duty_86 : decode cX2_duty 86 = .ok (.aload_n 0, 1) := dk_42 (dk_at dksX2_duty_3 16 rfl rfl)
theorem dX2_duty_87 : decode cX2_duty 87 = .ok (.getfield 114, 3) := dk_180 0 114 (dk_at dksX2_duty_3 17 rfl rfl)
theorem dX2_duty_90 : decode cX2_duty 90 = .ok (.iload 6, 2) := dk_21 6 (dk_at dksX2_duty_3 20 rfl rfl)
theorem dX2_duty_92 : decode cX2_duty 92 = .ok (.iaload, 1) := dk_46 (dk_at dksX2_duty_3 22 rfl rfl)
theorem dX2_duty_93 : decode cX2_duty 93 = .ok (.ireturn, 1) := dk_172 (dk_at dksX2_duty_3 23 rfl rfl)
theorem dX2_duty_94 : decode cX2_duty 94 = .ok (.iinc 5 (-1), 3) := dk_132 5 255 (dk_at dksX2_duty_4 0 rfl rfl)
theorem dX2_duty_97 : decode cX2_duty 97 = .ok (.iinc 6 1, 3) := dk_132 6 1 (dk_at dksX2_duty_4 3 rfl rfl)
theorem dX2_duty_100 : decode cX2_duty 100 = .ok (.goto (-66), 3) := dk_167 255 190 (dk_at dksX2_duty_4 6 rfl rfl)
theorem dX2_duty_103 : decode cX2_duty 103 = .ok (.bipush (-4), 2) := dk_16 252 (dk_at dksX2_duty_4 9 rfl rfl)
theorem dX2_duty_105 : decode cX2_duty 105 = .ok (.ireturn, 1) := dk_172 (dk_at dksX2_duty_4 11 rfl rfl)
abbrev cX2_tries : ByteArray := prog_21_method_71_code
def yX2_tries : MethodName := ⟨RX2, "tries", "(II)I"⟩
def dkwX2_tries_1 : List UInt8 := [182, 1, 125, 167, 0, 4, 2, 172]
abbrev dktX2_tries_1 : List UInt8 := dkwX2_tries_1 ++ []
def dkwX2_tries_0 : List UInt8 := [42, 27, 182, 1, 48, 153, 0, 24, 28, 133, 9, 20, 1, 123, 184, 0, 131, 153, 0, 12, 42, 27, 28]
abbrev dktX2_tries_0 : List UInt8 := dkwX2_tries_0 ++ dktX2_tries_1
theorem dksX2_tries_0 : cX2_tries.data.toList.drop 0 = dktX2_tries_0 := by decide +kernel
theorem dksX2_tries_1 : cX2_tries.data.toList.drop 23 = dktX2_tries_1 := dk_seg dksX2_tries_0 23 rfl rfl
theorem dX2_tries_0 : decode cX2_tries 0 = .ok (.aload_n 0, 1) := dk_42 (dk_at dksX2_tries_0 0 rfl rfl)
theorem dX2_tries_1 : decode cX2_tries 1 = .ok (.iload_n 1, 1) := dk_27 (dk_at dksX2_tries_0 1 rfl rfl)
theorem dX2_tries_2 : decode cX2_tries 2 = .ok (.invokevirtual 304, 3) := dk_182 1 48 (dk_at dksX2_tries_0 2 rfl rfl)
theorem dX2_tries_5 : decode cX2_tries 5 = .ok (.ifCond .eq 24, 3) := dk_153 0 24 (dk_at dksX2_tries_0 5 rfl rfl)
theorem dX2_tries_8 : decode cX2_tries 8 = .ok (.iload_n 2, 1) := dk_28 (dk_at dksX2_tries_0 8 rfl rfl)
theorem dX2_tries_9 : decode cX2_tries 9 = .ok (.i2l, 1) := dk_133 (dk_at dksX2_tries_0 9 rfl rfl)
theorem dX2_tries_10 : decode cX2_tries 10 = .ok (.lconst 0, 1) := dk_9 (dk_at dksX2_tries_0 10 rfl rfl)
theorem dX2_tries_11 : decode cX2_tries 11 = .ok (.ldc2_w 379, 3) := dk_20 1 123 (dk_at dksX2_tries_0 11 rfl rfl)
theorem dX2_tries_14 : decode cX2_tries 14 = .ok (.invokestatic 131, 3) := dk_184 0 131 (dk_at dksX2_tries_0 14 rfl rfl)
theorem dX2_tries_17 : decode cX2_tries 17 = .ok (.ifCond .eq 12, 3) := dk_153 0 12 (dk_at dksX2_tries_0 17 rfl rfl)
theorem dX2_tries_20 : decode cX2_tries 20 = .ok (.aload_n 0, 1) := dk_42 (dk_at dksX2_tries_0 20 rfl rfl)
theorem dX2_tries_21 : decode cX2_tries 21 = .ok (.iload_n 1, 1) := dk_27 (dk_at dksX2_tries_0 21 rfl rfl)
theorem dX2_tries_22 : decode cX2_tries 22 = .ok (.iload_n 2, 1) := dk_28 (dk_at dksX2_tries_0 22 rfl rfl)
theorem dX2_tries_23 : decode cX2_tries 23 = .ok (.invokevirtual 381, 3) := dk_182 1 125 (dk_at dksX2_tries_1 0 rfl rfl)
theorem dX2_tries_26 : decode cX2_tries 26 = .ok (.goto 4, 3) := dk_167 0 4 (dk_at dksX2_tries_1 3 rfl rfl)
theorem dX2_tries_29 : decode cX2_tries 29 = .ok (.iconst (-1), 1) := dk_2 (dk_at dksX2_tries_1 6 rfl rfl)
theorem dX2_tries_30 : decode cX2_tries 30 = .ok (.ireturn, 1) := dk_172 (dk_at dksX2_tries_1 7 rfl rfl)
abbrev cX2_triesOf : ByteArray := prog_21_method_70_code
def yX2_triesOf : MethodName := ⟨RX2, "triesOf", "(II)I"⟩
def dkwX2_triesOf_2 : List UInt8 := [132, 4, 1, 167, 255, 216, 29, 172]
abbrev dktX2_triesOf_2 : List UInt8 := dkwX2_triesOf_2 ++ []
def dkwX2_triesOf_1 : List UInt8 := [21, 4, 182, 1, 114, 29, 42, 180, 1, 96, 28, 160, 0, 7, 4, 167, 0, 4, 3, 184, 0, 194, 96, 62]
abbrev dktX2_triesOf_1 : List UInt8 := dkwX2_triesOf_1 ++ dktX2_triesOf_2
def dkwX2_triesOf_0 : List UInt8 := [3, 62, 42, 27, 182, 1, 69, 3, 54, 4, 21, 4, 42, 180, 0, 35, 3, 46, 162, 0, 35, 42, 27]
abbrev dktX2_triesOf_0 : List UInt8 := dkwX2_triesOf_0 ++ dktX2_triesOf_1
theorem dksX2_triesOf_0 : cX2_triesOf.data.toList.drop 0 = dktX2_triesOf_0 := by decide +kernel
theorem dksX2_triesOf_1 : cX2_triesOf.data.toList.drop 23 = dktX2_triesOf_1 := dk_seg dksX2_triesOf_0 23 rfl rfl
theorem dksX2_triesOf_2 : cX2_triesOf.data.toList.drop 47 = dktX2_triesOf_2 := dk_seg dksX2_triesOf_1 24 rfl rfl
theorem dX2_triesOf_0 : decode cX2_triesOf 0 = .ok (.iconst 0, 1) := dk_3 (dk_at dksX2_triesOf_0 0 rfl rfl)
theorem dX2_triesOf_1 : decode cX2_triesOf 1 = .ok (.istore_n 3, 1) := dk_62 (dk_at dksX2_triesOf_0 1 rfl rfl)
theorem dX2_triesOf_2 : decode cX2_triesOf 2 = .ok (.aload_n 0, 1) := dk_42 (dk_at dksX2_triesOf_0 2 rfl rfl)
theorem dX2_triesOf_3 : decode cX2_triesOf 3 = .ok (.iload_n 1, 1) := dk_27 (dk_at dksX2_triesOf_0 3 rfl rfl)
theorem dX2_triesOf_4 : decode cX2_triesOf 4 = .ok (.invokevirtual 325, 3) := dk_182 1 69 (dk_at dksX2_triesOf_0 4 rfl rfl)
theorem dX2_triesOf_7 : decode cX2_triesOf 7 = .ok (.iconst 0, 1) := dk_3 (dk_at dksX2_triesOf_0 7 rfl rfl)
theorem dX2_triesOf_8 : decode cX2_triesOf 8 = .ok (.istore 4, 2) := dk_54 4 (dk_at dksX2_triesOf_0 8 rfl rfl)
theorem dX2_triesOf_10 : decode cX2_triesOf 10 = .ok (.iload 4, 2) := dk_21 4 (dk_at dksX2_triesOf_0 10 rfl rfl)
theorem dX2_triesOf_12 : decode cX2_triesOf 12 = .ok (.aload_n 0, 1) := dk_42 (dk_at dksX2_triesOf_0 12 rfl rfl)
theorem dX2_triesOf_13 : decode cX2_triesOf 13 = .ok (.getfield 35, 3) := dk_180 0 35 (dk_at dksX2_triesOf_0 13 rfl rfl)
theorem dX2_triesOf_16 : decode cX2_triesOf 16 = .ok (.iconst 0, 1) := dk_3 (dk_at dksX2_triesOf_0 16 rfl rfl)
theorem dX2_triesOf_17 : decode cX2_triesOf 17 = .ok (.iaload, 1) := dk_46 (dk_at dksX2_triesOf_0 17 rfl rfl)
theorem dX2_triesOf_18 : decode cX2_triesOf 18 = .ok (.if_icmp .ge 35, 3) := dk_162 0 35 (dk_at dksX2_triesOf_0 18 rfl rfl)
theorem dX2_triesOf_21 : decode cX2_triesOf 21 = .ok (.aload_n 0, 1) := dk_42 (dk_at dksX2_triesOf_0 21 rfl rfl)
theorem dX2_triesOf_22 : decode cX2_triesOf 22 = .ok (.iload_n 1, 1) := dk_27 (dk_at dksX2_triesOf_0 22 rfl rfl)
theorem dX2_triesOf_23 : decode cX2_triesOf 23 = .ok (.iload 4, 2) := dk_21 4 (dk_at dksX2_triesOf_1 0 rfl rfl)
theorem dX2_triesOf_25 : decode cX2_triesOf 25 = .ok (.invokevirtual 370, 3) := dk_182 1 114 (dk_at dksX2_triesOf_1 2 rfl rfl)
theorem dX2_triesOf_28 : decode cX2_triesOf 28 = .ok (.iload_n 3, 1) := dk_29 (dk_at dksX2_triesOf_1 5 rfl rfl)
theorem dX2_triesOf_29 : decode cX2_triesOf 29 = .ok (.aload_n 0, 1) := dk_42 (dk_at dksX2_triesOf_1 6 rfl rfl)
theorem dX2_triesOf_30 : decode cX2_triesOf 30 = .ok (.getfield 352, 3) := dk_180 1 96 (dk_at dksX2_triesOf_1 7 rfl rfl)
theorem dX2_triesOf_33 : decode cX2_triesOf 33 = .ok (.iload_n 2, 1) := dk_28 (dk_at dksX2_triesOf_1 10 rfl rfl)
theorem dX2_triesOf_34 : decode cX2_triesOf 34 = .ok (.if_icmp .ne 7, 3) := dk_160 0 7 (dk_at dksX2_triesOf_1 11 rfl rfl)
theorem dX2_triesOf_37 : decode cX2_triesOf 37 = .ok (.iconst 1, 1) := dk_4 (dk_at dksX2_triesOf_1 14 rfl rfl)
theorem dX2_triesOf_38 : decode cX2_triesOf 38 = .ok (.goto 4, 3) := dk_167 0 4 (dk_at dksX2_triesOf_1 15 rfl rfl)
theorem dX2_triesOf_41 : decode cX2_triesOf 41 = .ok (.iconst 0, 1) := dk_3 (dk_at dksX2_triesOf_1 18 rfl rfl)
theorem dX2_triesOf_42 : decode cX2_triesOf 42 = .ok (.invokestatic 194, 3) := dk_184 0 194 (dk_at dksX2_triesOf_1 19 rfl rfl)
theorem dX2_triesOf_45 : decode cX2_triesOf 45 = .ok (.iadd, 1) := dk_96 (dk_at dksX2_triesOf_1 22 rfl rfl)
theorem dX2_triesOf_46 : decode cX2_triesOf 46 = .ok (.istore_n 3, 1) := dk_62 (dk_at dksX2_triesOf_1 23 rfl rfl)
theorem dX2_triesOf_47 : decode cX2_triesOf 47 = .ok (.iinc 4 1, 3) := dk_132 4 1 (dk_at dksX2_triesOf_2 0 rfl rfl)
theorem dX2_triesOf_50 : decode cX2_triesOf 50 = .ok (.goto (-40), 3) := dk_167 255 216 (dk_at dksX2_triesOf_2 3 rfl rfl)
theorem dX2_triesOf_53 : decode cX2_triesOf 53 = .ok (.iload_n 3, 1) := dk_29 (dk_at dksX2_triesOf_2 6 rfl rfl)
theorem dX2_triesOf_54 : decode cX2_triesOf 54 = .ok (.ireturn, 1) := dk_172 (dk_at dksX2_triesOf_2 7 rfl rfl)
abbrev cX2_first : ByteArray := prog_21_method_72_code
def yX2_first : MethodName := ⟨RX2, "first", "(II)I"⟩
def dkwX2_first_2 : List UInt8 := [180, 1, 96, 28, 160, 0, 5, 29, 172, 132, 3, 1, 167, 255, 227, 16, 252, 172]
abbrev dktX2_first_2 : List UInt8 := dkwX2_first_2 ++ []
def dkwX2_first_1 : List UInt8 := [182, 1, 69, 3, 62, 29, 42, 180, 0, 35, 3, 46, 162, 0, 25, 42, 27, 29, 182, 1, 114, 42]
abbrev dktX2_first_1 : List UInt8 := dkwX2_first_1 ++ dktX2_first_2
def dkwX2_first_0 : List UInt8 := [42, 27, 182, 1, 48, 153, 0, 15, 28, 133, 9, 20, 1, 123, 184, 0, 131, 154, 0, 5, 2, 172, 42, 27]
abbrev dktX2_first_0 : List UInt8 := dkwX2_first_0 ++ dktX2_first_1
theorem dksX2_first_0 : cX2_first.data.toList.drop 0 = dktX2_first_0 := by decide +kernel
theorem dksX2_first_1 : cX2_first.data.toList.drop 24 = dktX2_first_1 := dk_seg dksX2_first_0 24 rfl rfl
theorem dksX2_first_2 : cX2_first.data.toList.drop 46 = dktX2_first_2 := dk_seg dksX2_first_1 22 rfl rfl
theorem dX2_first_0 : decode cX2_first 0 = .ok (.aload_n 0, 1) := dk_42 (dk_at dksX2_first_0 0 rfl rfl)
theorem dX2_first_1 : decode cX2_first 1 = .ok (.iload_n 1, 1) := dk_27 (dk_at dksX2_first_0 1 rfl rfl)
theorem dX2_first_2 : decode cX2_first 2 = .ok (.invokevirtual 304, 3) := dk_182 1 48 (dk_at dksX2_first_0 2 rfl rfl)
theorem dX2_first_5 : decode cX2_first 5 = .ok (.ifCond .eq 15, 3) := dk_153 0 15 (dk_at dksX2_first_0 5 rfl rfl)
theorem dX2_first_8 : decode cX2_first 8 = .ok (.iload_n 2, 1) := dk_28 (dk_at dksX2_first_0 8 rfl rfl)
theorem dX2_first_9 : decode cX2_first 9 = .ok (.i2l, 1) := dk_133 (dk_at dksX2_first_0 9 rfl rfl)
theorem dX2_first_10 : decode cX2_first 10 = .ok (.lconst 0, 1) := dk_9 (dk_at dksX2_first_0 10 rfl rfl)
theorem dX2_first_11 : decode cX2_first 11 = .ok (.ldc2_w 379, 3) := dk_20 1 123 (dk_at dksX2_first_0 11 rfl rfl)
theorem dX2_first_14 : decode cX2_first 14 = .ok (.invokestatic 131, 3) := dk_184 0 131 (dk_at dksX2_first_0 14 rfl rfl)
theorem dX2_first_17 : decode cX2_first 17 = .ok (.ifCond .ne 5, 3) := dk_154 0 5 (dk_at dksX2_first_0 17 rfl rfl)
theorem dX2_first_20 : decode cX2_first 20 = .ok (.iconst (-1), 1) := dk_2 (dk_at dksX2_first_0 20 rfl rfl)
theorem dX2_first_21 : decode cX2_first 21 = .ok (.ireturn, 1) := dk_172 (dk_at dksX2_first_0 21 rfl rfl)
theorem dX2_first_22 : decode cX2_first 22 = .ok (.aload_n 0, 1) := dk_42 (dk_at dksX2_first_0 22 rfl rfl)
theorem dX2_first_23 : decode cX2_first 23 = .ok (.iload_n 1, 1) := dk_27 (dk_at dksX2_first_0 23 rfl rfl)
theorem dX2_first_24 : decode cX2_first 24 = .ok (.invokevirtual 325, 3) := dk_182 1 69 (dk_at dksX2_first_1 0 rfl rfl)
theorem dX2_first_27 : decode cX2_first 27 = .ok (.iconst 0, 1) := dk_3 (dk_at dksX2_first_1 3 rfl rfl)
theorem dX2_first_28 : decode cX2_first 28 = .ok (.istore_n 3, 1) := dk_62 (dk_at dksX2_first_1 4 rfl rfl)
theorem dX2_first_29 : decode cX2_first 29 = .ok (.iload_n 3, 1) := dk_29 (dk_at dksX2_first_1 5 rfl rfl)
theorem dX2_first_30 : decode cX2_first 30 = .ok (.aload_n 0, 1) := dk_42 (dk_at dksX2_first_1 6 rfl rfl)
theorem dX2_first_31 : decode cX2_first 31 = .ok (.getfield 35, 3) := dk_180 0 35 (dk_at dksX2_first_1 7 rfl rfl)
theorem dX2_first_34 : decode cX2_first 34 = .ok (.iconst 0, 1) := dk_3 (dk_at dksX2_first_1 10 rfl rfl)
theorem dX2_first_35 : decode cX2_first 35 = .ok (.iaload, 1) := dk_46 (dk_at dksX2_first_1 11 rfl rfl)
theorem dX2_first_36 : decode cX2_first 36 = .ok (.if_icmp .ge 25, 3) := dk_162 0 25 (dk_at dksX2_first_1 12 rfl rfl)
theorem dX2_first_39 : decode cX2_first 39 = .ok (.aload_n 0, 1) := dk_42 (dk_at dksX2_first_1 15 rfl rfl)
theorem dX2_first_40 : decode cX2_first 40 = .ok (.iload_n 1, 1) := dk_27 (dk_at dksX2_first_1 16 rfl rfl)
theorem dX2_first_41 : decode cX2_first 41 = .ok (.iload_n 3, 1) := dk_29 (dk_at dksX2_first_1 17 rfl rfl)
theorem dX2_first_42 : decode cX2_first 42 = .ok (.invokevirtual 370, 3) := dk_182 1 114 (dk_at dksX2_first_1 18 rfl rfl)
theorem dX2_first_45 : decode cX2_first 45 = .ok (.aload_n 0, 1) := dk_42 (dk_at dksX2_first_1 21 rfl rfl)
theorem dX2_first_46 : decode cX2_first 46 = .ok (.getfield 352, 3) := dk_180 1 96 (dk_at dksX2_first_2 0 rfl rfl)
theorem dX2_first_49 : decode cX2_first 49 = .ok (.iload_n 2, 1) := dk_28 (dk_at dksX2_first_2 3 rfl rfl)
theorem dX2_first_50 : decode cX2_first 50 = .ok (.if_icmp .ne 5, 3) := dk_160 0 5 (dk_at dksX2_first_2 4 rfl rfl)
theorem dX2_first_53 : decode cX2_first 53 = .ok (.iload_n 3, 1) := dk_29 (dk_at dksX2_first_2 7 rfl rfl)
theorem dX2_first_54 : decode cX2_first 54 = .ok (.ireturn, 1) := dk_172 (dk_at dksX2_first_2 8 rfl rfl)
theorem dX2_first_55 : decode cX2_first 55 = .ok (.iinc 3 1, 3) := dk_132 3 1 (dk_at dksX2_first_2 9 rfl rfl)
theorem dX2_first_58 : decode cX2_first 58 = .ok (.goto (-29), 3) := dk_167 255 227 (dk_at dksX2_first_2 12 rfl rfl)
theorem dX2_first_61 : decode cX2_first 61 = .ok (.bipush (-4), 2) := dk_16 252 (dk_at dksX2_first_2 15 rfl rfl)
theorem dX2_first_63 : decode cX2_first 63 = .ok (.ireturn, 1) := dk_172 (dk_at dksX2_first_2 17 rfl rfl)
abbrev cX2_rule : ByteArray := prog_21_method_75_code
def yX2_rule : MethodName := ⟨RX2, "rule", "(I)I"⟩
def dkwX2_rule_2 : List UInt8 := [182, 1, 130, 167, 0, 10, 42, 27, 5, 100, 182, 1, 133, 172]
abbrev dktX2_rule_2 : List UInt8 := dkwX2_rule_2 ++ []
def dkwX2_rule_1 : List UInt8 := [167, 0, 37, 27, 4, 160, 0, 12, 42, 180, 0, 35, 3, 46, 167, 0, 23, 27, 16, 7, 160, 0, 10, 42]
abbrev dktX2_rule_1 : List UInt8 := dkwX2_rule_1 ++ dktX2_rule_2
def dkwX2_rule_0 : List UInt8 := [27, 133, 9, 20, 1, 128, 184, 0, 131, 154, 0, 5, 2, 172, 27, 154, 0, 10, 42, 180, 1, 39]
abbrev dktX2_rule_0 : List UInt8 := dkwX2_rule_0 ++ dktX2_rule_1
theorem dksX2_rule_0 : cX2_rule.data.toList.drop 0 = dktX2_rule_0 := by decide +kernel
theorem dksX2_rule_1 : cX2_rule.data.toList.drop 22 = dktX2_rule_1 := dk_seg dksX2_rule_0 22 rfl rfl
theorem dksX2_rule_2 : cX2_rule.data.toList.drop 46 = dktX2_rule_2 := dk_seg dksX2_rule_1 24 rfl rfl
theorem dX2_rule_0 : decode cX2_rule 0 = .ok (.iload_n 1, 1) := dk_27 (dk_at dksX2_rule_0 0 rfl rfl)
theorem dX2_rule_1 : decode cX2_rule 1 = .ok (.i2l, 1) := dk_133 (dk_at dksX2_rule_0 1 rfl rfl)
theorem dX2_rule_2 : decode cX2_rule 2 = .ok (.lconst 0, 1) := dk_9 (dk_at dksX2_rule_0 2 rfl rfl)
theorem dX2_rule_3 : decode cX2_rule 3 = .ok (.ldc2_w 384, 3) := dk_20 1 128 (dk_at dksX2_rule_0 3 rfl rfl)
theorem dX2_rule_6 : decode cX2_rule 6 = .ok (.invokestatic 131, 3) := dk_184 0 131 (dk_at dksX2_rule_0 6 rfl rfl)
theorem dX2_rule_9 : decode cX2_rule 9 = .ok (.ifCond .ne 5, 3) := dk_154 0 5 (dk_at dksX2_rule_0 9 rfl rfl)
theorem dX2_rule_12 : decode cX2_rule 12 = .ok (.iconst (-1), 1) := dk_2 (dk_at dksX2_rule_0 12 rfl rfl)
theorem dX2_rule_13 : decode cX2_rule 13 = .ok (.ireturn, 1) := dk_172 (dk_at dksX2_rule_0 13 rfl rfl)
theorem dX2_rule_14 : decode cX2_rule 14 = .ok (.iload_n 1, 1) := dk_27 (dk_at dksX2_rule_0 14 rfl rfl)
theorem dX2_rule_15 : decode cX2_rule 15 = .ok (.ifCond .ne 10, 3) := dk_154 0 10 (dk_at dksX2_rule_0 15 rfl rfl)
theorem dX2_rule_18 : decode cX2_rule 18 = .ok (.aload_n 0, 1) := dk_42 (dk_at dksX2_rule_0 18 rfl rfl)
theorem dX2_rule_19 : decode cX2_rule 19 = .ok (.getfield 295, 3) := dk_180 1 39 (dk_at dksX2_rule_0 19 rfl rfl)
theorem dX2_rule_22 : decode cX2_rule 22 = .ok (.goto 37, 3) := dk_167 0 37 (dk_at dksX2_rule_1 0 rfl rfl)
theorem dX2_rule_25 : decode cX2_rule 25 = .ok (.iload_n 1, 1) := dk_27 (dk_at dksX2_rule_1 3 rfl rfl)
theorem dX2_rule_26 : decode cX2_rule 26 = .ok (.iconst 1, 1) := dk_4 (dk_at dksX2_rule_1 4 rfl rfl)
theorem dX2_rule_27 : decode cX2_rule 27 = .ok (.if_icmp .ne 12, 3) := dk_160 0 12 (dk_at dksX2_rule_1 5 rfl rfl)
theorem dX2_rule_30 : decode cX2_rule 30 = .ok (.aload_n 0, 1) := dk_42 (dk_at dksX2_rule_1 8 rfl rfl)
theorem dX2_rule_31 : decode cX2_rule 31 = .ok (.getfield 35, 3) := dk_180 0 35 (dk_at dksX2_rule_1 9 rfl rfl)
theorem dX2_rule_34 : decode cX2_rule 34 = .ok (.iconst 0, 1) := dk_3 (dk_at dksX2_rule_1 12 rfl rfl)
theorem dX2_rule_35 : decode cX2_rule 35 = .ok (.iaload, 1) := dk_46 (dk_at dksX2_rule_1 13 rfl rfl)
theorem dX2_rule_36 : decode cX2_rule 36 = .ok (.goto 23, 3) := dk_167 0 23 (dk_at dksX2_rule_1 14 rfl rfl)
theorem dX2_rule_39 : decode cX2_rule 39 = .ok (.iload_n 1, 1) := dk_27 (dk_at dksX2_rule_1 17 rfl rfl)
theorem dX2_rule_40 : decode cX2_rule 40 = .ok (.bipush 7, 2) := dk_16 7 (dk_at dksX2_rule_1 18 rfl rfl)
theorem dX2_rule_42 : decode cX2_rule 42 = .ok (.if_icmp .ne 10, 3) := dk_160 0 10 (dk_at dksX2_rule_1 20 rfl rfl)
theorem dX2_rule_45 : decode cX2_rule 45 = .ok (.aload_n 0, 1) := dk_42 (dk_at dksX2_rule_1 23 rfl rfl)
theorem dX2_rule_46 : decode cX2_rule 46 = .ok (.invokevirtual 386, 3) := dk_182 1 130 (dk_at dksX2_rule_2 0 rfl rfl)
theorem dX2_rule_49 : decode cX2_rule 49 = .ok (.goto 10, 3) := dk_167 0 10 (dk_at dksX2_rule_2 3 rfl rfl)
theorem dX2_rule_52 : decode cX2_rule 52 = .ok (.aload_n 0, 1) := dk_42 (dk_at dksX2_rule_2 6 rfl rfl)
theorem dX2_rule_53 : decode cX2_rule 53 = .ok (.iload_n 1, 1) := dk_27 (dk_at dksX2_rule_2 7 rfl rfl)
theorem dX2_rule_54 : decode cX2_rule 54 = .ok (.iconst 2, 1) := dk_5 (dk_at dksX2_rule_2 8 rfl rfl)
theorem dX2_rule_55 : decode cX2_rule 55 = .ok (.isub, 1) := dk_100 (dk_at dksX2_rule_2 9 rfl rfl)
theorem dX2_rule_56 : decode cX2_rule 56 = .ok (.invokevirtual 389, 3) := dk_182 1 133 (dk_at dksX2_rule_2 10 rfl rfl)
theorem dX2_rule_59 : decode cX2_rule 59 = .ok (.ireturn, 1) := dk_172 (dk_at dksX2_rule_2 13 rfl rfl)
abbrev cX2_allDuties : ByteArray := prog_21_method_73_code
def yX2_allDuties : MethodName := ⟨RX2, "allDuties", "()I"⟩
def dkwX2_allDuties_2 : List UInt8 := [167, 255, 229, 132, 2, 1, 167, 255, 208, 27, 172]
abbrev dktX2_allDuties_2 : List UInt8 := dkwX2_allDuties_2 ++ []
def dkwX2_allDuties_1 : List UInt8 := [3, 46, 162, 0, 23, 42, 28, 29, 182, 1, 114, 27, 42, 29, 182, 1, 120, 96, 60, 132, 3, 1]
abbrev dktX2_allDuties_1 : List UInt8 := dkwX2_allDuties_1 ++ dktX2_allDuties_2
def dkwX2_allDuties_0 : List UInt8 := [3, 60, 3, 61, 28, 42, 180, 1, 39, 162, 0, 46, 42, 28, 182, 1, 69, 3, 62, 29, 42, 180, 0, 35]
abbrev dktX2_allDuties_0 : List UInt8 := dkwX2_allDuties_0 ++ dktX2_allDuties_1
theorem dksX2_allDuties_0 : cX2_allDuties.data.toList.drop 0 = dktX2_allDuties_0 := by decide +kernel
theorem dksX2_allDuties_1 : cX2_allDuties.data.toList.drop 24 = dktX2_allDuties_1 := dk_seg dksX2_allDuties_0 24 rfl rfl
theorem dksX2_allDuties_2 : cX2_allDuties.data.toList.drop 46 = dktX2_allDuties_2 := dk_seg dksX2_allDuties_1 22 rfl rfl
theorem dX2_allDuties_0 : decode cX2_allDuties 0 = .ok (.iconst 0, 1) := dk_3 (dk_at dksX2_allDuties_0 0 rfl rfl)
theorem dX2_allDuties_1 : decode cX2_allDuties 1 = .ok (.istore_n 1, 1) := dk_60 (dk_at dksX2_allDuties_0 1 rfl rfl)
theorem dX2_allDuties_2 : decode cX2_allDuties 2 = .ok (.iconst 0, 1) := dk_3 (dk_at dksX2_allDuties_0 2 rfl rfl)
theorem dX2_allDuties_3 : decode cX2_allDuties 3 = .ok (.istore_n 2, 1) := dk_61 (dk_at dksX2_allDuties_0 3 rfl rfl)
theorem dX2_allDuties_4 : decode cX2_allDuties 4 = .ok (.iload_n 2, 1) := dk_28 (dk_at dksX2_allDuties_0 4 rfl rfl)
theorem dX2_allDuties_5 : decode cX2_allDuties 5 = .ok (.aload_n 0, 1) := dk_42 (dk_at dksX2_allDuties_0 5 rfl rfl)
theorem dX2_allDuties_6 : decode cX2_allDuties 6 = .ok (.getfield 295, 3) := dk_180 1 39 (dk_at dksX2_allDuties_0 6 rfl rfl)
theorem dX2_allDuties_9 : decode cX2_allDuties 9 = .ok (.if_icmp .ge 46, 3) := dk_162 0 46 (dk_at dksX2_allDuties_0 9 rfl rfl)
theorem dX2_allDuties_12 : decode cX2_allDuties 12 = .ok (.aload_n 0, 1) := dk_42 (dk_at dksX2_allDuties_0 12 rfl rfl)
theorem dX2_allDuties_13 : decode cX2_allDuties 13 = .ok (.iload_n 2, 1) := dk_28 (dk_at dksX2_allDuties_0 13 rfl rfl)
theorem dX2_allDuties_14 : decode cX2_allDuties 14 = .ok (.invokevirtual 325, 3) := dk_182 1 69 (dk_at dksX2_allDuties_0 14 rfl rfl)
theorem dX2_allDuties_17 : decode cX2_allDuties 17 = .ok (.iconst 0, 1) := dk_3 (dk_at dksX2_allDuties_0 17 rfl rfl)
theorem dX2_allDuties_18 : decode cX2_allDuties 18 = .ok (.istore_n 3, 1) := dk_62 (dk_at dksX2_allDuties_0 18 rfl rfl)
theorem dX2_allDuties_19 : decode cX2_allDuties 19 = .ok (.iload_n 3, 1) := dk_29 (dk_at dksX2_allDuties_0 19 rfl rfl)
theorem dX2_allDuties_20 : decode cX2_allDuties 20 = .ok (.aload_n 0, 1) := dk_42 (dk_at dksX2_allDuties_0 20 rfl rfl)
theorem dX2_allDuties_21 : decode cX2_allDuties 21 = .ok (.getfield 35, 3) := dk_180 0 35 (dk_at dksX2_allDuties_0 21 rfl rfl)
theorem dX2_allDuties_24 : decode cX2_allDuties 24 = .ok (.iconst 0, 1) := dk_3 (dk_at dksX2_allDuties_1 0 rfl rfl)
theorem dX2_allDuties_25 : decode cX2_allDuties 25 = .ok (.iaload, 1) := dk_46 (dk_at dksX2_allDuties_1 1 rfl rfl)
theorem dX2_allDuties_26 : decode cX2_allDuties 26 = .ok (.if_icmp .ge 23, 3) := dk_162 0 23 (dk_at dksX2_allDuties_1 2 rfl rfl)
theorem dX2_allDuties_29 : decode cX2_allDuties 29 = .ok (.aload_n 0, 1) := dk_42 (dk_at dksX2_allDuties_1 5 rfl rfl)
theorem dX2_allDuties_30 : decode cX2_allDuties 30 = .ok (.iload_n 2, 1) := dk_28 (dk_at dksX2_allDuties_1 6 rfl rfl)
theorem dX2_allDuties_31 : decode cX2_allDuties 31 = .ok (.iload_n 3, 1) := dk_29 (dk_at dksX2_allDuties_1 7 rfl rfl)
theorem dX2_allDuties_32 : decode cX2_allDuties 32 = .ok (.invokevirtual 370, 3) := dk_182 1 114 (dk_at dksX2_allDuties_1 8 rfl rfl)
theorem dX2_allDuties_35 : decode cX2_allDuties 35 = .ok (.iload_n 1, 1) := dk_27 (dk_at dksX2_allDuties_1 11 rfl rfl)
theorem dX2_allDuties_36 : decode cX2_allDuties 36 = .ok (.aload_n 0, 1) := dk_42 (dk_at dksX2_allDuties_1 12 rfl rfl)
theorem dX2_allDuties_37 : decode cX2_allDuties 37 = .ok (.iload_n 3, 1) := dk_29 (dk_at dksX2_allDuties_1 13 rfl rfl)
theorem dX2_allDuties_38 : decode cX2_allDuties 38 = .ok (.invokevirtual 376, 3) := dk_182 1 120 (dk_at dksX2_allDuties_1 14 rfl rfl)
theorem dX2_allDuties_41 : decode cX2_allDuties 41 = .ok (.iadd, 1) := dk_96 (dk_at dksX2_allDuties_1 17 rfl rfl)
theorem dX2_allDuties_42 : decode cX2_allDuties 42 = .ok (.istore_n 1, 1) := dk_60 (dk_at dksX2_allDuties_1 18 rfl rfl)
theorem dX2_allDuties_43 : decode cX2_allDuties 43 = .ok (.iinc 3 1, 3) := dk_132 3 1 (dk_at dksX2_allDuties_1 19 rfl rfl)
theorem dX2_allDuties_46 : decode cX2_allDuties 46 = .ok (.goto (-27), 3) := dk_167 255 229 (dk_at dksX2_allDuties_2 0 rfl rfl)
theorem dX2_allDuties_49 : decode cX2_allDuties 49 = .ok (.iinc 2 1, 3) := dk_132 2 1 (dk_at dksX2_allDuties_2 3 rfl rfl)
theorem dX2_allDuties_52 : decode cX2_allDuties 52 = .ok (.goto (-48), 3) := dk_167 255 208 (dk_at dksX2_allDuties_2 6 rfl rfl)
theorem dX2_allDuties_55 : decode cX2_allDuties 55 = .ok (.iload_n 1, 1) := dk_27 (dk_at dksX2_allDuties_2 9 rfl rfl)
theorem dX2_allDuties_56 : decode cX2_allDuties 56 = .ok (.ireturn, 1) := dk_172 (dk_at dksX2_allDuties_2 10 rfl rfl)
abbrev cX2_allTries : ByteArray := prog_21_method_74_code
def yX2_allTries : MethodName := ⟨RX2, "allTries", "(I)I"⟩
def dkwX2_allTries_1 : List UInt8 := [167, 255, 236, 28, 172]
abbrev dktX2_allTries_1 : List UInt8 := dkwX2_allTries_1 ++ []
def dkwX2_allTries_0 : List UInt8 := [3, 61, 3, 62, 29, 42, 180, 1, 39, 162, 0, 18, 28, 42, 29, 27, 182, 1, 125, 96, 61, 132, 3, 1]
abbrev dktX2_allTries_0 : List UInt8 := dkwX2_allTries_0 ++ dktX2_allTries_1
theorem dksX2_allTries_0 : cX2_allTries.data.toList.drop 0 = dktX2_allTries_0 := by decide +kernel
theorem dksX2_allTries_1 : cX2_allTries.data.toList.drop 24 = dktX2_allTries_1 := dk_seg dksX2_allTries_0 24 rfl rfl
theorem dX2_allTries_0 : decode cX2_allTries 0 = .ok (.iconst 0, 1) := dk_3 (dk_at dksX2_allTries_0 0 rfl rfl)
theorem dX2_allTries_1 : decode cX2_allTries 1 = .ok (.istore_n 2, 1) := dk_61 (dk_at dksX2_allTries_0 1 rfl rfl)
theorem dX2_allTries_2 : decode cX2_allTries 2 = .ok (.iconst 0, 1) := dk_3 (dk_at dksX2_allTries_0 2 rfl rfl)
theorem dX2_allTries_3 : decode cX2_allTries 3 = .ok (.istore_n 3, 1) := dk_62 (dk_at dksX2_allTries_0 3 rfl rfl)
theorem dX2_allTries_4 : decode cX2_allTries 4 = .ok (.iload_n 3, 1) := dk_29 (dk_at dksX2_allTries_0 4 rfl rfl)
theorem dX2_allTries_5 : decode cX2_allTries 5 = .ok (.aload_n 0, 1) := dk_42 (dk_at dksX2_allTries_0 5 rfl rfl)
theorem dX2_allTries_6 : decode cX2_allTries 6 = .ok (.getfield 295, 3) := dk_180 1 39 (dk_at dksX2_allTries_0 6 rfl rfl)
theorem dX2_allTries_9 : decode cX2_allTries 9 = .ok (.if_icmp .ge 18, 3) := dk_162 0 18 (dk_at dksX2_allTries_0 9 rfl rfl)
theorem dX2_allTries_12 : decode cX2_allTries 12 = .ok (.iload_n 2, 1) := dk_28 (dk_at dksX2_allTries_0 12 rfl rfl)
theorem dX2_allTries_13 : decode cX2_allTries 13 = .ok (.aload_n 0, 1) := dk_42 (dk_at dksX2_allTries_0 13 rfl rfl)
theorem dX2_allTries_14 : decode cX2_allTries 14 = .ok (.iload_n 3, 1) := dk_29 (dk_at dksX2_allTries_0 14 rfl rfl)
theorem dX2_allTries_15 : decode cX2_allTries 15 = .ok (.iload_n 1, 1) := dk_27 (dk_at dksX2_allTries_0 15 rfl rfl)
theorem dX2_allTries_16 : decode cX2_allTries 16 = .ok (.invokevirtual 381, 3) := dk_182 1 125 (dk_at dksX2_allTries_0 16 rfl rfl)
theorem dX2_allTries_19 : decode cX2_allTries 19 = .ok (.iadd, 1) := dk_96 (dk_at dksX2_allTries_0 19 rfl rfl)
theorem dX2_allTries_20 : decode cX2_allTries 20 = .ok (.istore_n 2, 1) := dk_61 (dk_at dksX2_allTries_0 20 rfl rfl)
theorem dX2_allTries_21 : decode cX2_allTries 21 = .ok (.iinc 3 1, 3) := dk_132 3 1 (dk_at dksX2_allTries_0 21 rfl rfl)
theorem dX2_allTries_24 : decode cX2_allTries 24 = .ok (.goto (-20), 3) := dk_167 255 236 (dk_at dksX2_allTries_1 0 rfl rfl)
theorem dX2_allTries_27 : decode cX2_allTries 27 = .ok (.iload_n 2, 1) := dk_28 (dk_at dksX2_allTries_1 3 rfl rfl)
theorem dX2_allTries_28 : decode cX2_allTries 28 = .ok (.ireturn, 1) := dk_172 (dk_at dksX2_allTries_1 4 rfl rfl)
abbrev cX2_tick : ByteArray := prog_21_method_77_code
def yX2_tick : MethodName := ⟨RX2, "tick", "(I)I"⟩
def dkwX2_tick_2 : List UInt8 := [42, 180, 0, 35, 3, 46, 4, 100, 182, 1, 136, 172]
abbrev dktX2_tick_2 : List UInt8 := dkwX2_tick_2 ++ []
def dkwX2_tick_1 : List UInt8 := [180, 0, 35, 4, 42, 180, 0, 35, 3, 46, 96, 27, 79, 42, 180, 0, 35, 3, 92, 46, 4, 96, 79, 42]
abbrev dktX2_tick_1 : List UInt8 := dkwX2_tick_1 ++ dktX2_tick_2
def dkwX2_tick_0 : List UInt8 := [27, 184, 1, 56, 154, 0, 5, 2, 172, 42, 180, 0, 35, 3, 46, 16, 48, 160, 0, 6, 16, 253, 172, 42]
abbrev dktX2_tick_0 : List UInt8 := dkwX2_tick_0 ++ dktX2_tick_1
theorem dksX2_tick_0 : cX2_tick.data.toList.drop 0 = dktX2_tick_0 := by decide +kernel
theorem dksX2_tick_1 : cX2_tick.data.toList.drop 24 = dktX2_tick_1 := dk_seg dksX2_tick_0 24 rfl rfl
theorem dksX2_tick_2 : cX2_tick.data.toList.drop 48 = dktX2_tick_2 := dk_seg dksX2_tick_1 24 rfl rfl
theorem dX2_tick_0 : decode cX2_tick 0 = .ok (.iload_n 1, 1) := dk_27 (dk_at dksX2_tick_0 0 rfl rfl)
theorem dX2_tick_1 : decode cX2_tick 1 = .ok (.invokestatic 312, 3) := dk_184 1 56 (dk_at dksX2_tick_0 1 rfl rfl)
theorem dX2_tick_4 : decode cX2_tick 4 = .ok (.ifCond .ne 5, 3) := dk_154 0 5 (dk_at dksX2_tick_0 4 rfl rfl)
theorem dX2_tick_7 : decode cX2_tick 7 = .ok (.iconst (-1), 1) := dk_2 (dk_at dksX2_tick_0 7 rfl rfl)
theorem dX2_tick_8 : decode cX2_tick 8 = .ok (.ireturn, 1) := dk_172 (dk_at dksX2_tick_0 8 rfl rfl)
theorem dX2_tick_9 : decode cX2_tick 9 = .ok (.aload_n 0, 1) := dk_42 (dk_at dksX2_tick_0 9 rfl rfl)
theorem dX2_tick_10 : decode cX2_tick 10 = .ok (.getfield 35, 3) := dk_180 0 35 (dk_at dksX2_tick_0 10 rfl rfl)
theorem dX2_tick_13 : decode cX2_tick 13 = .ok (.iconst 0, 1) := dk_3 (dk_at dksX2_tick_0 13 rfl rfl)
theorem dX2_tick_14 : decode cX2_tick 14 = .ok (.iaload, 1) := dk_46 (dk_at dksX2_tick_0 14 rfl rfl)
theorem dX2_tick_15 : decode cX2_tick 15 = .ok (.bipush 48, 2) := dk_16 48 (dk_at dksX2_tick_0 15 rfl rfl)
theorem dX2_tick_17 : decode cX2_tick 17 = .ok (.if_icmp .ne 6, 3) := dk_160 0 6 (dk_at dksX2_tick_0 17 rfl rfl)
theorem dX2_tick_20 : decode cX2_tick 20 = .ok (.bipush (-3), 2) := dk_16 253 (dk_at dksX2_tick_0 20 rfl rfl)
theorem dX2_tick_22 : decode cX2_tick 22 = .ok (.ireturn, 1) := dk_172 (dk_at dksX2_tick_0 22 rfl rfl)
theorem dX2_tick_23 : decode cX2_tick 23 = .ok (.aload_n 0, 1) := dk_42 (dk_at dksX2_tick_0 23 rfl rfl)
theorem dX2_tick_24 : decode cX2_tick 24 = .ok (.getfield 35, 3) := dk_180 0 35 (dk_at dksX2_tick_1 0 rfl rfl)
theorem dX2_tick_27 : decode cX2_tick 27 = .ok (.iconst 1, 1) := dk_4 (dk_at dksX2_tick_1 3 rfl rfl)
theorem dX2_tick_28 : decode cX2_tick 28 = .ok (.aload_n 0, 1) := dk_42 (dk_at dksX2_tick_1 4 rfl rfl)
theorem dX2_tick_29 : decode cX2_tick 29 = .ok (.getfield 35, 3) := dk_180 0 35 (dk_at dksX2_tick_1 5 rfl rfl)
theorem dX2_tick_32 : decode cX2_tick 32 = .ok (.iconst 0, 1) := dk_3 (dk_at dksX2_tick_1 8 rfl rfl)
theorem dX2_tick_33 : decode cX2_tick 33 = .ok (.iaload, 1) := dk_46 (dk_at dksX2_tick_1 9 rfl rfl)
theorem dX2_tick_34 : decode cX2_tick 34 = .ok (.iadd, 1) := dk_96 (dk_at dksX2_tick_1 10 rfl rfl)
theorem dX2_tick_35 : decode cX2_tick 35 = .ok (.iload_n 1, 1) := dk_27 (dk_at dksX2_tick_1 11 rfl rfl)
theorem dX2_tick_36 : decode cX2_tick 36 = .ok (.iastore, 1) := dk_79 (dk_at dksX2_tick_1 12 rfl rfl)
theorem dX2_tick_37 : decode cX2_tick 37 = .ok (.aload_n 0, 1) := dk_42 (dk_at dksX2_tick_1 13 rfl rfl)
theorem dX2_tick_38 : decode cX2_tick 38 = .ok (.getfield 35, 3) := dk_180 0 35 (dk_at dksX2_tick_1 14 rfl rfl)
theorem dX2_tick_41 : decode cX2_tick 41 = .ok (.iconst 0, 1) := dk_3 (dk_at dksX2_tick_1 17 rfl rfl)
theorem dX2_tick_42 : decode cX2_tick 42 = .ok (.dup2, 1) := dk_92 (dk_at dksX2_tick_1 18 rfl rfl)
theorem dX2_tick_43 : decode cX2_tick 43 = .ok (.iaload, 1) := dk_46 (dk_at dksX2_tick_1 19 rfl rfl)
theorem dX2_tick_44 : decode cX2_tick 44 = .ok (.iconst 1, 1) := dk_4 (dk_at dksX2_tick_1 20 rfl rfl)
theorem dX2_tick_45 : decode cX2_tick 45 = .ok (.iadd, 1) := dk_96 (dk_at dksX2_tick_1 21 rfl rfl)
theorem dX2_tick_46 : decode cX2_tick 46 = .ok (.iastore, 1) := dk_79 (dk_at dksX2_tick_1 22 rfl rfl)
theorem dX2_tick_47 : decode cX2_tick 47 = .ok (.aload_n 0, 1) := dk_42 (dk_at dksX2_tick_1 23 rfl rfl)
theorem dX2_tick_48 : decode cX2_tick 48 = .ok (.aload_n 0, 1) := dk_42 (dk_at dksX2_tick_2 0 rfl rfl)
theorem dX2_tick_49 : decode cX2_tick 49 = .ok (.getfield 35, 3) := dk_180 0 35 (dk_at dksX2_tick_2 1 rfl rfl)
theorem dX2_tick_52 : decode cX2_tick 52 = .ok (.iconst 0, 1) := dk_3 (dk_at dksX2_tick_2 4 rfl rfl)
theorem dX2_tick_53 : decode cX2_tick 53 = .ok (.iaload, 1) := dk_46 (dk_at dksX2_tick_2 5 rfl rfl)
theorem dX2_tick_54 : decode cX2_tick 54 = .ok (.iconst 1, 1) := dk_4 (dk_at dksX2_tick_2 6 rfl rfl)
theorem dX2_tick_55 : decode cX2_tick 55 = .ok (.isub, 1) := dk_100 (dk_at dksX2_tick_2 7 rfl rfl)
theorem dX2_tick_56 : decode cX2_tick 56 = .ok (.invokevirtual 392, 3) := dk_182 1 136 (dk_at dksX2_tick_2 8 rfl rfl)
theorem dX2_tick_59 : decode cX2_tick 59 = .ok (.ireturn, 1) := dk_172 (dk_at dksX2_tick_2 11 rfl rfl)
abbrev cX2_failedBy : ByteArray := prog_21_method_76_code
def yX2_failedBy : MethodName := ⟨RX2, "failedBy", "(I)I"⟩
def dkwX2_failedBy_3 : List UInt8 := [167, 255, 191, 28, 172]
abbrev dktX2_failedBy_3 : List UInt8 := dkwX2_failedBy_3 ++ []
def dkwX2_failedBy_2 : List UInt8 := [160, 0, 7, 4, 167, 0, 4, 3, 184, 0, 194, 96, 61, 132, 4, 1, 167, 255, 213, 132, 3, 1]
abbrev dktX2_failedBy_2 : List UInt8 := dkwX2_failedBy_2 ++ dktX2_failedBy_3
def dkwX2_failedBy_1 : List UInt8 := [163, 0, 43, 42, 29, 21, 4, 182, 1, 114, 28, 42, 180, 1, 96, 5, 160, 0, 15, 42, 180, 1, 99, 27]
abbrev dktX2_failedBy_1 : List UInt8 := dkwX2_failedBy_1 ++ dktX2_failedBy_2
def dkwX2_failedBy_0 : List UInt8 := [3, 61, 3, 62, 29, 42, 180, 1, 39, 162, 0, 63, 42, 29, 182, 1, 69, 3, 54, 4, 21, 4, 27]
abbrev dktX2_failedBy_0 : List UInt8 := dkwX2_failedBy_0 ++ dktX2_failedBy_1
theorem dksX2_failedBy_0 : cX2_failedBy.data.toList.drop 0 = dktX2_failedBy_0 := by decide +kernel
theorem dksX2_failedBy_1 : cX2_failedBy.data.toList.drop 23 = dktX2_failedBy_1 := dk_seg dksX2_failedBy_0 23 rfl rfl
theorem dksX2_failedBy_2 : cX2_failedBy.data.toList.drop 47 = dktX2_failedBy_2 := dk_seg dksX2_failedBy_1 24 rfl rfl
theorem dksX2_failedBy_3 : cX2_failedBy.data.toList.drop 69 = dktX2_failedBy_3 := dk_seg dksX2_failedBy_2 22 rfl rfl
theorem dX2_failedBy_0 : decode cX2_failedBy 0 = .ok (.iconst 0, 1) := dk_3 (dk_at dksX2_failedBy_0 0 rfl rfl)
theorem dX2_failedBy_1 : decode cX2_failedBy 1 = .ok (.istore_n 2, 1) := dk_61 (dk_at dksX2_failedBy_0 1 rfl rfl)
theorem dX2_failedBy_2 : decode cX2_failedBy 2 = .ok (.iconst 0, 1) := dk_3 (dk_at dksX2_failedBy_0 2 rfl rfl)
theorem dX2_failedBy_3 : decode cX2_failedBy 3 = .ok (.istore_n 3, 1) := dk_62 (dk_at dksX2_failedBy_0 3 rfl rfl)
theorem dX2_failedBy_4 : decode cX2_failedBy 4 = .ok (.iload_n 3, 1) := dk_29 (dk_at dksX2_failedBy_0 4 rfl rfl)
theorem dX2_failedBy_5 : decode cX2_failedBy 5 = .ok (.aload_n 0, 1) := dk_42 (dk_at dksX2_failedBy_0 5 rfl rfl)
theorem dX2_failedBy_6 : decode cX2_failedBy 6 = .ok (.getfield 295, 3) := dk_180 1 39 (dk_at dksX2_failedBy_0 6 rfl rfl)
theorem dX2_failedBy_9 : decode cX2_failedBy 9 = .ok (.if_icmp .ge 63, 3) := dk_162 0 63 (dk_at dksX2_failedBy_0 9 rfl rfl)
theorem dX2_failedBy_12 : decode cX2_failedBy 12 = .ok (.aload_n 0, 1) := dk_42 (dk_at dksX2_failedBy_0 12 rfl rfl)
theorem dX2_failedBy_13 : decode cX2_failedBy 13 = .ok (.iload_n 3, 1) := dk_29 (dk_at dksX2_failedBy_0 13 rfl rfl)
theorem dX2_failedBy_14 : decode cX2_failedBy 14 = .ok (.invokevirtual 325, 3) := dk_182 1 69 (dk_at dksX2_failedBy_0 14 rfl rfl)
theorem dX2_failedBy_17 : decode cX2_failedBy 17 = .ok (.iconst 0, 1) := dk_3 (dk_at dksX2_failedBy_0 17 rfl rfl)
theorem dX2_failedBy_18 : decode cX2_failedBy 18 = .ok (.istore 4, 2) := dk_54 4 (dk_at dksX2_failedBy_0 18 rfl rfl)
theorem dX2_failedBy_20 : decode cX2_failedBy 20 = .ok (.iload 4, 2) := dk_21 4 (dk_at dksX2_failedBy_0 20 rfl rfl)
theorem dX2_failedBy_22 : decode cX2_failedBy 22 = .ok (.iload_n 1, 1) := dk_27 (dk_at dksX2_failedBy_0 22 rfl rfl)
theorem dX2_failedBy_23 : decode cX2_failedBy 23 = .ok (.if_icmp .gt 43, 3) := dk_163 0 43 (dk_at dksX2_failedBy_1 0 rfl rfl)
theorem dX2_failedBy_26 : decode cX2_failedBy 26 = .ok (.aload_n 0, 1) := dk_42 (dk_at dksX2_failedBy_1 3 rfl rfl)
theorem dX2_failedBy_27 : decode cX2_failedBy 27 = .ok (.iload_n 3, 1) := dk_29 (dk_at dksX2_failedBy_1 4 rfl rfl)
theorem dX2_failedBy_28 : decode cX2_failedBy 28 = .ok (.iload 4, 2) := dk_21 4 (dk_at dksX2_failedBy_1 5 rfl rfl)
theorem dX2_failedBy_30 : decode cX2_failedBy 30 = .ok (.invokevirtual 370, 3) := dk_182 1 114 (dk_at dksX2_failedBy_1 7 rfl rfl)
theorem dX2_failedBy_33 : decode cX2_failedBy 33 = .ok (.iload_n 2, 1) := dk_28 (dk_at dksX2_failedBy_1 10 rfl rfl)
theorem dX2_failedBy_34 : decode cX2_failedBy 34 = .ok (.aload_n 0, 1) := dk_42 (dk_at dksX2_failedBy_1 11 rfl rfl)
theorem dX2_failedBy_35 : decode cX2_failedBy 35 = .ok (.getfield 352, 3) := dk_180 1 96 (dk_at dksX2_failedBy_1 12 rfl rfl)
theorem dX2_failedBy_38 : decode cX2_failedBy 38 = .ok (.iconst 2, 1) := dk_5 (dk_at dksX2_failedBy_1 15 rfl rfl)
theorem dX2_failedBy_39 : decode cX2_failedBy 39 = .ok (.if_icmp .ne 15, 3) := dk_160 0 15 (dk_at dksX2_failedBy_1 16 rfl rfl)
theorem dX2_failedBy_42 : decode cX2_failedBy 42 = .ok (.aload_n 0, 1) := dk_42 (dk_at dksX2_failedBy_1 19 rfl rfl)
theorem dX2_failedBy_43 : decode cX2_failedBy 43 = .ok (.getfield 355, 3) := dk_180 1 99 (dk_at dksX2_failedBy_1 20 rfl rfl)
theorem dX2_failedBy_46 : decode cX2_failedBy 46 = .ok (.iload_n 1, 1) := dk_27 (dk_at dksX2_failedBy_1 23 rfl rfl)
theorem dX2_failedBy_47 : decode cX2_failedBy 47 = .ok (.if_icmp .ne 7, 3) := dk_160 0 7 (dk_at dksX2_failedBy_2 0 rfl rfl)
theorem dX2_failedBy_50 : decode cX2_failedBy 50 = .ok (.iconst 1, 1) := dk_4 (dk_at dksX2_failedBy_2 3 rfl rfl)
theorem dX2_failedBy_51 : decode cX2_failedBy 51 = .ok (.goto 4, 3) := dk_167 0 4 (dk_at dksX2_failedBy_2 4 rfl rfl)
theorem dX2_failedBy_54 : decode cX2_failedBy 54 = .ok (.iconst 0, 1) := dk_3 (dk_at dksX2_failedBy_2 7 rfl rfl)
theorem dX2_failedBy_55 : decode cX2_failedBy 55 = .ok (.invokestatic 194, 3) := dk_184 0 194 (dk_at dksX2_failedBy_2 8 rfl rfl)
theorem dX2_failedBy_58 : decode cX2_failedBy 58 = .ok (.iadd, 1) := dk_96 (dk_at dksX2_failedBy_2 11 rfl rfl)
theorem dX2_failedBy_59 : decode cX2_failedBy 59 = .ok (.istore_n 2, 1) := dk_61 (dk_at dksX2_failedBy_2 12 rfl rfl)
theorem dX2_failedBy_60 : decode cX2_failedBy 60 = .ok (.iinc 4 1, 3) := dk_132 4 1 (dk_at dksX2_failedBy_2 13 rfl rfl)
theorem dX2_failedBy_63 : decode cX2_failedBy 63 = .ok (.goto (-43), 3) := dk_167 255 213 (dk_at dksX2_failedBy_2 16 rfl rfl)
theorem dX2_failedBy_66 : decode cX2_failedBy 66 = .ok (.iinc 3 1, 3) := dk_132 3 1 (dk_at dksX2_failedBy_2 19 rfl rfl)
theorem dX2_failedBy_69 : decode cX2_failedBy 69 = .ok (.goto (-65), 3) := dk_167 255 191 (dk_at dksX2_failedBy_3 0 rfl rfl)
theorem dX2_failedBy_72 : decode cX2_failedBy 72 = .ok (.iload_n 2, 1) := dk_28 (dk_at dksX2_failedBy_3 3 rfl rfl)
theorem dX2_failedBy_73 : decode cX2_failedBy 73 = .ok (.ireturn, 1) := dk_172 (dk_at dksX2_failedBy_3 4 rfl rfl)
abbrev cX2_bits : ByteArray := prog_21_method_78_code
def yX2_bits : MethodName := ⟨RX2, "bits", "(I)I"⟩
def dkwX2_bits_0 : List UInt8 := [42, 27, 182, 1, 111, 153, 0, 14, 42, 180, 0, 35, 4, 27, 96, 46, 167, 0, 4, 2, 172]
abbrev dktX2_bits_0 : List UInt8 := dkwX2_bits_0 ++ []
theorem dksX2_bits_0 : cX2_bits.data.toList.drop 0 = dktX2_bits_0 := by decide +kernel
theorem dX2_bits_0 : decode cX2_bits 0 = .ok (.aload_n 0, 1) := dk_42 (dk_at dksX2_bits_0 0 rfl rfl)
theorem dX2_bits_1 : decode cX2_bits 1 = .ok (.iload_n 1, 1) := dk_27 (dk_at dksX2_bits_0 1 rfl rfl)
theorem dX2_bits_2 : decode cX2_bits 2 = .ok (.invokevirtual 367, 3) := dk_182 1 111 (dk_at dksX2_bits_0 2 rfl rfl)
theorem dX2_bits_5 : decode cX2_bits 5 = .ok (.ifCond .eq 14, 3) := dk_153 0 14 (dk_at dksX2_bits_0 5 rfl rfl)
theorem dX2_bits_8 : decode cX2_bits 8 = .ok (.aload_n 0, 1) := dk_42 (dk_at dksX2_bits_0 8 rfl rfl)
theorem dX2_bits_9 : decode cX2_bits 9 = .ok (.getfield 35, 3) := dk_180 0 35 (dk_at dksX2_bits_0 9 rfl rfl)
theorem dX2_bits_12 : decode cX2_bits 12 = .ok (.iconst 1, 1) := dk_4 (dk_at dksX2_bits_0 12 rfl rfl)
theorem dX2_bits_13 : decode cX2_bits 13 = .ok (.iload_n 1, 1) := dk_27 (dk_at dksX2_bits_0 13 rfl rfl)
theorem dX2_bits_14 : decode cX2_bits 14 = .ok (.iadd, 1) := dk_96 (dk_at dksX2_bits_0 14 rfl rfl)
theorem dX2_bits_15 : decode cX2_bits 15 = .ok (.iaload, 1) := dk_46 (dk_at dksX2_bits_0 15 rfl rfl)
theorem dX2_bits_16 : decode cX2_bits 16 = .ok (.goto 4, 3) := dk_167 0 4 (dk_at dksX2_bits_0 16 rfl rfl)
theorem dX2_bits_19 : decode cX2_bits 19 = .ok (.iconst (-1), 1) := dk_2 (dk_at dksX2_bits_0 19 rfl rfl)
theorem dX2_bits_20 : decode cX2_bits 20 = .ok (.ireturn, 1) := dk_172 (dk_at dksX2_bits_0 20 rfl rfl)
abbrev cX2_put : ByteArray := prog_21_method_79_code
def yX2_put : MethodName := ⟨RX2, "put", "(II)I"⟩
def dkwX2_put_1 : List UInt8 := [46, 62, 42, 180, 0, 35, 4, 27, 96, 28, 79, 29, 172]
abbrev dktX2_put_1 : List UInt8 := dkwX2_put_1 ++ []
def dkwX2_put_0 : List UInt8 := [42, 27, 182, 1, 111, 153, 0, 10, 28, 184, 1, 56, 154, 0, 5, 2, 172, 42, 180, 0, 35, 4, 27, 96]
abbrev dktX2_put_0 : List UInt8 := dkwX2_put_0 ++ dktX2_put_1
theorem dksX2_put_0 : cX2_put.data.toList.drop 0 = dktX2_put_0 := by decide +kernel
theorem dksX2_put_1 : cX2_put.data.toList.drop 24 = dktX2_put_1 := dk_seg dksX2_put_0 24 rfl rfl
theorem dX2_put_0 : decode cX2_put 0 = .ok (.aload_n 0, 1) := dk_42 (dk_at dksX2_put_0 0 rfl rfl)
theorem dX2_put_1 : decode cX2_put 1 = .ok (.iload_n 1, 1) := dk_27 (dk_at dksX2_put_0 1 rfl rfl)
theorem dX2_put_2 : decode cX2_put 2 = .ok (.invokevirtual 367, 3) := dk_182 1 111 (dk_at dksX2_put_0 2 rfl rfl)
theorem dX2_put_5 : decode cX2_put 5 = .ok (.ifCond .eq 10, 3) := dk_153 0 10 (dk_at dksX2_put_0 5 rfl rfl)
theorem dX2_put_8 : decode cX2_put 8 = .ok (.iload_n 2, 1) := dk_28 (dk_at dksX2_put_0 8 rfl rfl)
theorem dX2_put_9 : decode cX2_put 9 = .ok (.invokestatic 312, 3) := dk_184 1 56 (dk_at dksX2_put_0 9 rfl rfl)
theorem dX2_put_12 : decode cX2_put 12 = .ok (.ifCond .ne 5, 3) := dk_154 0 5 (dk_at dksX2_put_0 12 rfl rfl)
theorem dX2_put_15 : decode cX2_put 15 = .ok (.iconst (-1), 1) := dk_2 (dk_at dksX2_put_0 15 rfl rfl)
theorem dX2_put_16 : decode cX2_put 16 = .ok (.ireturn, 1) := dk_172 (dk_at dksX2_put_0 16 rfl rfl)
theorem dX2_put_17 : decode cX2_put 17 = .ok (.aload_n 0, 1) := dk_42 (dk_at dksX2_put_0 17 rfl rfl)
theorem dX2_put_18 : decode cX2_put 18 = .ok (.getfield 35, 3) := dk_180 0 35 (dk_at dksX2_put_0 18 rfl rfl)
theorem dX2_put_21 : decode cX2_put 21 = .ok (.iconst 1, 1) := dk_4 (dk_at dksX2_put_0 21 rfl rfl)
theorem dX2_put_22 : decode cX2_put 22 = .ok (.iload_n 1, 1) := dk_27 (dk_at dksX2_put_0 22 rfl rfl)
theorem dX2_put_23 : decode cX2_put 23 = .ok (.iadd, 1) := dk_96 (dk_at dksX2_put_0 23 rfl rfl)
theorem dX2_put_24 : decode cX2_put 24 = .ok (.iaload, 1) := dk_46 (dk_at dksX2_put_1 0 rfl rfl)
theorem dX2_put_25 : decode cX2_put 25 = .ok (.istore_n 3, 1) := dk_62 (dk_at dksX2_put_1 1 rfl rfl)
theorem dX2_put_26 : decode cX2_put 26 = .ok (.aload_n 0, 1) := dk_42 (dk_at dksX2_put_1 2 rfl rfl)
theorem dX2_put_27 : decode cX2_put 27 = .ok (.getfield 35, 3) := dk_180 0 35 (dk_at dksX2_put_1 3 rfl rfl)
theorem dX2_put_30 : decode cX2_put 30 = .ok (.iconst 1, 1) := dk_4 (dk_at dksX2_put_1 6 rfl rfl)
theorem dX2_put_31 : decode cX2_put 31 = .ok (.iload_n 1, 1) := dk_27 (dk_at dksX2_put_1 7 rfl rfl)
theorem dX2_put_32 : decode cX2_put 32 = .ok (.iadd, 1) := dk_96 (dk_at dksX2_put_1 8 rfl rfl)
theorem dX2_put_33 : decode cX2_put 33 = .ok (.iload_n 2, 1) := dk_28 (dk_at dksX2_put_1 9 rfl rfl)
theorem dX2_put_34 : decode cX2_put 34 = .ok (.iastore, 1) := dk_79 (dk_at dksX2_put_1 10 rfl rfl)
theorem dX2_put_35 : decode cX2_put 35 = .ok (.iload_n 3, 1) := dk_29 (dk_at dksX2_put_1 11 rfl rfl)
theorem dX2_put_36 : decode cX2_put 36 = .ok (.ireturn, 1) := dk_172 (dk_at dksX2_put_1 12 rfl rfl)
abbrev cX2_keeps : ByteArray := prog_21_method_80_code
def yX2_keeps : MethodName := ⟨RX2, "keeps", "(I)I"⟩
def dkwX2_keeps_1 : List UInt8 := [61, 42, 180, 0, 35, 3, 27, 79, 28, 172]
abbrev dktX2_keeps_1 : List UInt8 := dkwX2_keeps_1 ++ []
def dkwX2_keeps_0 : List UInt8 := [27, 133, 9, 42, 180, 0, 35, 3, 46, 133, 184, 0, 131, 154, 0, 5, 2, 172, 42, 180, 0, 35, 3, 46]
abbrev dktX2_keeps_0 : List UInt8 := dkwX2_keeps_0 ++ dktX2_keeps_1
theorem dksX2_keeps_0 : cX2_keeps.data.toList.drop 0 = dktX2_keeps_0 := by decide +kernel
theorem dksX2_keeps_1 : cX2_keeps.data.toList.drop 24 = dktX2_keeps_1 := dk_seg dksX2_keeps_0 24 rfl rfl
theorem dX2_keeps_0 : decode cX2_keeps 0 = .ok (.iload_n 1, 1) := dk_27 (dk_at dksX2_keeps_0 0 rfl rfl)
theorem dX2_keeps_1 : decode cX2_keeps 1 = .ok (.i2l, 1) := dk_133 (dk_at dksX2_keeps_0 1 rfl rfl)
theorem dX2_keeps_2 : decode cX2_keeps 2 = .ok (.lconst 0, 1) := dk_9 (dk_at dksX2_keeps_0 2 rfl rfl)
theorem dX2_keeps_3 : decode cX2_keeps 3 = .ok (.aload_n 0, 1) := dk_42 (dk_at dksX2_keeps_0 3 rfl rfl)
theorem dX2_keeps_4 : decode cX2_keeps 4 = .ok (.getfield 35, 3) := dk_180 0 35 (dk_at dksX2_keeps_0 4 rfl rfl)
theorem dX2_keeps_7 : decode cX2_keeps 7 = .ok (.iconst 0, 1) := dk_3 (dk_at dksX2_keeps_0 7 rfl rfl)
theorem dX2_keeps_8 : decode cX2_keeps 8 = .ok (.iaload, 1) := dk_46 (dk_at dksX2_keeps_0 8 rfl rfl)
theorem dX2_keeps_9 : decode cX2_keeps 9 = .ok (.i2l, 1) := dk_133 (dk_at dksX2_keeps_0 9 rfl rfl)
theorem dX2_keeps_10 : decode cX2_keeps 10 = .ok (.invokestatic 131, 3) := dk_184 0 131 (dk_at dksX2_keeps_0 10 rfl rfl)
theorem dX2_keeps_13 : decode cX2_keeps 13 = .ok (.ifCond .ne 5, 3) := dk_154 0 5 (dk_at dksX2_keeps_0 13 rfl rfl)
theorem dX2_keeps_16 : decode cX2_keeps 16 = .ok (.iconst (-1), 1) := dk_2 (dk_at dksX2_keeps_0 16 rfl rfl)
theorem dX2_keeps_17 : decode cX2_keeps 17 = .ok (.ireturn, 1) := dk_172 (dk_at dksX2_keeps_0 17 rfl rfl)
theorem dX2_keeps_18 : decode cX2_keeps 18 = .ok (.aload_n 0, 1) := dk_42 (dk_at dksX2_keeps_0 18 rfl rfl)
theorem dX2_keeps_19 : decode cX2_keeps 19 = .ok (.getfield 35, 3) := dk_180 0 35 (dk_at dksX2_keeps_0 19 rfl rfl)
theorem dX2_keeps_22 : decode cX2_keeps 22 = .ok (.iconst 0, 1) := dk_3 (dk_at dksX2_keeps_0 22 rfl rfl)
theorem dX2_keeps_23 : decode cX2_keeps 23 = .ok (.iaload, 1) := dk_46 (dk_at dksX2_keeps_0 23 rfl rfl)
theorem dX2_keeps_24 : decode cX2_keeps 24 = .ok (.istore_n 2, 1) := dk_61 (dk_at dksX2_keeps_1 0 rfl rfl)
theorem dX2_keeps_25 : decode cX2_keeps 25 = .ok (.aload_n 0, 1) := dk_42 (dk_at dksX2_keeps_1 1 rfl rfl)
theorem dX2_keeps_26 : decode cX2_keeps 26 = .ok (.getfield 35, 3) := dk_180 0 35 (dk_at dksX2_keeps_1 2 rfl rfl)
theorem dX2_keeps_29 : decode cX2_keeps 29 = .ok (.iconst 0, 1) := dk_3 (dk_at dksX2_keeps_1 5 rfl rfl)
theorem dX2_keeps_30 : decode cX2_keeps 30 = .ok (.iload_n 1, 1) := dk_27 (dk_at dksX2_keeps_1 6 rfl rfl)
theorem dX2_keeps_31 : decode cX2_keeps 31 = .ok (.iastore, 1) := dk_79 (dk_at dksX2_keeps_1 7 rfl rfl)
theorem dX2_keeps_32 : decode cX2_keeps 32 = .ok (.iload_n 2, 1) := dk_28 (dk_at dksX2_keeps_1 8 rfl rfl)
theorem dX2_keeps_33 : decode cX2_keeps 33 = .ok (.ireturn, 1) := dk_172 (dk_at dksX2_keeps_1 9 rfl rfl)
abbrev cX2_draw : ByteArray := prog_21_method_82_code
def yX2_draw : MethodName := ⟨RX2, "draw", "(II)I"⟩
def dkwX2_draw_4 : List UInt8 := [180, 0, 35, 3, 46, 172]
abbrev dktX2_draw_4 : List UInt8 := dkwX2_draw_4 ++ []
def dkwX2_draw_3 : List UInt8 := [17, 1, 0, 112, 126, 79, 42, 180, 0, 35, 3, 92, 46, 4, 96, 79, 132, 3, 1, 167, 255, 204, 42]
abbrev dktX2_draw_3 : List UInt8 := dkwX2_draw_3 ++ dktX2_draw_4
def dkwX2_draw_2 : List UInt8 := [17, 1, 0, 112, 54, 4, 42, 180, 0, 35, 4, 42, 180, 0, 35, 3, 46, 96, 21, 4, 42, 182, 1, 145]
abbrev dktX2_draw_2 : List UInt8 := dkwX2_draw_2 ++ dktX2_draw_3
def dkwX2_draw_1 : List UInt8 := [164, 0, 6, 16, 253, 172, 42, 27, 181, 1, 139, 3, 62, 29, 28, 162, 0, 53, 42, 182, 1, 145]
abbrev dktX2_draw_1 : List UInt8 := dkwX2_draw_1 ++ dktX2_draw_2
def dkwX2_draw_0 : List UInt8 := [28, 133, 10, 20, 1, 143, 184, 0, 131, 154, 0, 5, 2, 172, 42, 180, 0, 35, 3, 46, 28, 96, 16, 48]
abbrev dktX2_draw_0 : List UInt8 := dkwX2_draw_0 ++ dktX2_draw_1
theorem dksX2_draw_0 : cX2_draw.data.toList.drop 0 = dktX2_draw_0 := by decide +kernel
theorem dksX2_draw_1 : cX2_draw.data.toList.drop 24 = dktX2_draw_1 := dk_seg dksX2_draw_0 24 rfl rfl
theorem dksX2_draw_2 : cX2_draw.data.toList.drop 46 = dktX2_draw_2 := dk_seg dksX2_draw_1 22 rfl rfl
theorem dksX2_draw_3 : cX2_draw.data.toList.drop 70 = dktX2_draw_3 := dk_seg dksX2_draw_2 24 rfl rfl
theorem dksX2_draw_4 : cX2_draw.data.toList.drop 93 = dktX2_draw_4 := dk_seg dksX2_draw_3 23 rfl rfl
theorem dX2_draw_0 : decode cX2_draw 0 = .ok (.iload_n 2, 1) := dk_28 (dk_at dksX2_draw_0 0 rfl rfl)
theorem dX2_draw_1 : decode cX2_draw 1 = .ok (.i2l, 1) := dk_133 (dk_at dksX2_draw_0 1 rfl rfl)
theorem dX2_draw_2 : decode cX2_draw 2 = .ok (.lconst 1, 1) := dk_10 (dk_at dksX2_draw_0 2 rfl rfl)
theorem dX2_draw_3 : decode cX2_draw 3 = .ok (.ldc2_w 399, 3) := dk_20 1 143 (dk_at dksX2_draw_0 3 rfl rfl)
theorem dX2_draw_6 : decode cX2_draw 6 = .ok (.invokestatic 131, 3) := dk_184 0 131 (dk_at dksX2_draw_0 6 rfl rfl)
theorem dX2_draw_9 : decode cX2_draw 9 = .ok (.ifCond .ne 5, 3) := dk_154 0 5 (dk_at dksX2_draw_0 9 rfl rfl)
theorem dX2_draw_12 : decode cX2_draw 12 = .ok (.iconst (-1), 1) := dk_2 (dk_at dksX2_draw_0 12 rfl rfl)
theorem dX2_draw_13 : decode cX2_draw 13 = .ok (.ireturn, 1) := dk_172 (dk_at dksX2_draw_0 13 rfl rfl)
theorem dX2_draw_14 : decode cX2_draw 14 = .ok (.aload_n 0, 1) := dk_42 (dk_at dksX2_draw_0 14 rfl rfl)
theorem dX2_draw_15 : decode cX2_draw 15 = .ok (.getfield 35, 3) := dk_180 0 35 (dk_at dksX2_draw_0 15 rfl rfl)
theorem dX2_draw_18 : decode cX2_draw 18 = .ok (.iconst 0, 1) := dk_3 (dk_at dksX2_draw_0 18 rfl rfl)
theorem dX2_draw_19 : decode cX2_draw 19 = .ok (.iaload, 1) := dk_46 (dk_at dksX2_draw_0 19 rfl rfl)
theorem dX2_draw_20 : decode cX2_draw 20 = .ok (.iload_n 2, 1) := dk_28 (dk_at dksX2_draw_0 20 rfl rfl)
theorem dX2_draw_21 : decode cX2_draw 21 = .ok (.iadd, 1) := dk_96 (dk_at dksX2_draw_0 21 rfl rfl)
theorem dX2_draw_22 : decode cX2_draw 22 = .ok (.bipush 48, 2) := dk_16 48 (dk_at dksX2_draw_0 22 rfl rfl)
theorem dX2_draw_24 : decode cX2_draw 24 = .ok (.if_icmp .le 6, 3) := dk_164 0 6 (dk_at dksX2_draw_1 0 rfl rfl)
theorem dX2_draw_27 : decode cX2_draw 27 = .ok (.bipush (-3), 2) := dk_16 253 (dk_at dksX2_draw_1 3 rfl rfl)
theorem dX2_draw_29 : decode cX2_draw 29 = .ok (.ireturn, 1) := dk_172 (dk_at dksX2_draw_1 5 rfl rfl)
theorem dX2_draw_30 : decode cX2_draw 30 = .ok (.aload_n 0, 1) := dk_42 (dk_at dksX2_draw_1 6 rfl rfl)
theorem dX2_draw_31 : decode cX2_draw 31 = .ok (.iload_n 1, 1) := dk_27 (dk_at dksX2_draw_1 7 rfl rfl)
theorem dX2_draw_32 : decode cX2_draw 32 = .ok (.putfield 395, 3) := dk_181 1 139 (dk_at dksX2_draw_1 8 rfl rfl)
theorem dX2_draw_35 : decode cX2_draw 35 = .ok (.iconst 0, 1) := dk_3 (dk_at dksX2_draw_1 11 rfl rfl)
theorem dX2_draw_36 : decode cX2_draw 36 = .ok (.istore_n 3, 1) := dk_62 (dk_at dksX2_draw_1 12 rfl rfl)
theorem dX2_draw_37 : decode cX2_draw 37 = .ok (.iload_n 3, 1) := dk_29 (dk_at dksX2_draw_1 13 rfl rfl)
theorem dX2_draw_38 : decode cX2_draw 38 = .ok (.iload_n 2, 1) := dk_28 (dk_at dksX2_draw_1 14 rfl rfl)
theorem dX2_draw_39 : decode cX2_draw 39 = .ok (.if_icmp .ge 53, 3) := dk_162 0 53 (dk_at dksX2_draw_1 15 rfl rfl)
theorem dX2_draw_42 : decode cX2_draw 42 = .ok (.aload_n 0, 1) := dk_42 (dk_at dksX2_draw_1 18 rfl rfl)
theorem dX2_draw_43 : decode cX2_draw 43 = .ok (.invokevirtual 401, 3) := dk_182 1 145 (dk_at dksX2_draw_1 19 rfl rfl)
theorem dX2_draw_46 : decode cX2_draw 46 = .ok (.sipush 256, 3) := dk_17 1 0 (dk_at dksX2_draw_2 0 rfl rfl)
theorem dX2_draw_49 : decode cX2_draw 49 = .ok (.irem, 1) := dk_112 (dk_at dksX2_draw_2 3 rfl rfl)
theorem dX2_draw_50 : decode cX2_draw 50 = .ok (.istore 4, 2) := dk_54 4 (dk_at dksX2_draw_2 4 rfl rfl)
theorem dX2_draw_52 : decode cX2_draw 52 = .ok (.aload_n 0, 1) := dk_42 (dk_at dksX2_draw_2 6 rfl rfl)
theorem dX2_draw_53 : decode cX2_draw 53 = .ok (.getfield 35, 3) := dk_180 0 35 (dk_at dksX2_draw_2 7 rfl rfl)
theorem dX2_draw_56 : decode cX2_draw 56 = .ok (.iconst 1, 1) := dk_4 (dk_at dksX2_draw_2 10 rfl rfl)
theorem dX2_draw_57 : decode cX2_draw 57 = .ok (.aload_n 0, 1) := dk_42 (dk_at dksX2_draw_2 11 rfl rfl)
theorem dX2_draw_58 : decode cX2_draw 58 = .ok (.getfield 35, 3) := dk_180 0 35 (dk_at dksX2_draw_2 12 rfl rfl)
theorem dX2_draw_61 : decode cX2_draw 61 = .ok (.iconst 0, 1) := dk_3 (dk_at dksX2_draw_2 15 rfl rfl)
theorem dX2_draw_62 : decode cX2_draw 62 = .ok (.iaload, 1) := dk_46 (dk_at dksX2_draw_2 16 rfl rfl)
theorem dX2_draw_63 : decode cX2_draw 63 = .ok (.iadd, 1) := dk_96 (dk_at dksX2_draw_2 17 rfl rfl)
theorem dX2_draw_64 : decode cX2_draw 64 = .ok (.iload 4, 2) := dk_21 4 (dk_at dksX2_draw_2 18 rfl rfl)
theorem dX2_draw_66 : decode cX2_draw 66 = .ok (.aload_n 0, 1) := dk_42 (dk_at dksX2_draw_2 20 rfl rfl)
theorem dX2_draw_67 : decode cX2_draw 67 = .ok (.invokevirtual 401, 3) := dk_182 1 145 (dk_at dksX2_draw_2 21 rfl rfl)
theorem dX2_draw_70 : decode cX2_draw 70 = .ok (.sipush 256, 3) := dk_17 1 0 (dk_at dksX2_draw_3 0 rfl rfl)
theorem dX2_draw_73 : decode cX2_draw 73 = .ok (.irem, 1) := dk_112 (dk_at dksX2_draw_3 3 rfl rfl)
theorem dX2_draw_74 : decode cX2_draw 74 = .ok (.iand, 1) := dk_126 (dk_at dksX2_draw_3 4 rfl rfl)
theorem dX2_draw_75 : decode cX2_draw 75 = .ok (.iastore, 1) := dk_79 (dk_at dksX2_draw_3 5 rfl rfl)
theorem dX2_draw_76 : decode cX2_draw 76 = .ok (.aload_n 0, 1) := dk_42 (dk_at dksX2_draw_3 6 rfl rfl)
theorem dX2_draw_77 : decode cX2_draw 77 = .ok (.getfield 35, 3) := dk_180 0 35 (dk_at dksX2_draw_3 7 rfl rfl)
theorem dX2_draw_80 : decode cX2_draw 80 = .ok (.iconst 0, 1) := dk_3 (dk_at dksX2_draw_3 10 rfl rfl)
theorem dX2_draw_81 : decode cX2_draw 81 = .ok (.dup2, 1) := dk_92 (dk_at dksX2_draw_3 11 rfl rfl)
theorem dX2_draw_82 : decode cX2_draw 82 = .ok (.iaload, 1) := dk_46 (dk_at dksX2_draw_3 12 rfl rfl)
theorem dX2_draw_83 : decode cX2_draw 83 = .ok (.iconst 1, 1) := dk_4 (dk_at dksX2_draw_3 13 rfl rfl)
theorem dX2_draw_84 : decode cX2_draw 84 = .ok (.iadd, 1) := dk_96 (dk_at dksX2_draw_3 14 rfl rfl)
theorem dX2_draw_85 : decode cX2_draw 85 = .ok (.iastore, 1) := dk_79 (dk_at dksX2_draw_3 15 rfl rfl)
theorem dX2_draw_86 : decode cX2_draw 86 = .ok (.iinc 3 1, 3) := dk_132 3 1 (dk_at dksX2_draw_3 16 rfl rfl)
theorem dX2_draw_89 : decode cX2_draw 89 = .ok (.goto (-52), 3) := dk_167 255 204 (dk_at dksX2_draw_3 19 rfl rfl)
theorem dX2_draw_92 : decode cX2_draw 92 = .ok (.aload_n 0, 1) := dk_42 (dk_at dksX2_draw_3 22 rfl rfl)
theorem dX2_draw_93 : decode cX2_draw 93 = .ok (.getfield 35, 3) := dk_180 0 35 (dk_at dksX2_draw_4 0 rfl rfl)
theorem dX2_draw_96 : decode cX2_draw 96 = .ok (.iconst 0, 1) := dk_3 (dk_at dksX2_draw_4 3 rfl rfl)
theorem dX2_draw_97 : decode cX2_draw 97 = .ok (.iaload, 1) := dk_46 (dk_at dksX2_draw_4 4 rfl rfl)
theorem dX2_draw_98 : decode cX2_draw 98 = .ok (.ireturn, 1) := dk_172 (dk_at dksX2_draw_4 5 rfl rfl)
abbrev cX2_gets : ByteArray := prog_21_method_81_code
def yX2_gets : MethodName := ⟨RX2, "gets", "()I"⟩
def dkwX2_gets_1 : List UInt8 := [17, 127, 255, 126, 172]
abbrev dktX2_gets_1 : List UInt8 := dkwX2_gets_1 ++ []
def dkwX2_gets_0 : List UInt8 := [42, 42, 180, 1, 139, 19, 1, 142, 104, 17, 48, 57, 96, 181, 1, 139, 42, 180, 1, 139, 16, 16, 122]
abbrev dktX2_gets_0 : List UInt8 := dkwX2_gets_0 ++ dktX2_gets_1
theorem dksX2_gets_0 : cX2_gets.data.toList.drop 0 = dktX2_gets_0 := by decide +kernel
theorem dksX2_gets_1 : cX2_gets.data.toList.drop 23 = dktX2_gets_1 := dk_seg dksX2_gets_0 23 rfl rfl
theorem dX2_gets_0 : decode cX2_gets 0 = .ok (.aload_n 0, 1) := dk_42 (dk_at dksX2_gets_0 0 rfl rfl)
theorem dX2_gets_1 : decode cX2_gets 1 = .ok (.aload_n 0, 1) := dk_42 (dk_at dksX2_gets_0 1 rfl rfl)
theorem dX2_gets_2 : decode cX2_gets 2 = .ok (.getfield 395, 3) := dk_180 1 139 (dk_at dksX2_gets_0 2 rfl rfl)
theorem dX2_gets_5 : decode cX2_gets 5 = .ok (.ldc_w 398, 3) := dk_19 1 142 (dk_at dksX2_gets_0 5 rfl rfl)
theorem dX2_gets_8 : decode cX2_gets 8 = .ok (.imul, 1) := dk_104 (dk_at dksX2_gets_0 8 rfl rfl)
theorem dX2_gets_9 : decode cX2_gets 9 = .ok (.sipush 12345, 3) := dk_17 48 57 (dk_at dksX2_gets_0 9 rfl rfl)
theorem dX2_gets_12 : decode cX2_gets 12 = .ok (.iadd, 1) := dk_96 (dk_at dksX2_gets_0 12 rfl rfl)
theorem dX2_gets_13 : decode cX2_gets 13 = .ok (.putfield 395, 3) := dk_181 1 139 (dk_at dksX2_gets_0 13 rfl rfl)
theorem dX2_gets_16 : decode cX2_gets 16 = .ok (.aload_n 0, 1) := dk_42 (dk_at dksX2_gets_0 16 rfl rfl)
theorem dX2_gets_17 : decode cX2_gets 17 = .ok (.getfield 395, 3) := dk_180 1 139 (dk_at dksX2_gets_0 17 rfl rfl)
theorem dX2_gets_20 : decode cX2_gets 20 = .ok (.bipush 16, 2) := dk_16 16 (dk_at dksX2_gets_0 20 rfl rfl)
theorem dX2_gets_22 : decode cX2_gets 22 = .ok (.ishr, 1) := dk_122 (dk_at dksX2_gets_0 22 rfl rfl)
theorem dX2_gets_23 : decode cX2_gets 23 = .ok (.sipush 32767, 3) := dk_17 127 255 (dk_at dksX2_gets_1 0 rfl rfl)
theorem dX2_gets_26 : decode cX2_gets 26 = .ok (.iand, 1) := dk_126 (dk_at dksX2_gets_1 3 rfl rfl)
theorem dX2_gets_27 : decode cX2_gets 27 = .ok (.ireturn, 1) := dk_172 (dk_at dksX2_gets_1 4 rfl rfl)
abbrev cX2_keep : ByteArray := prog_21_method_83_code
def yX2_keep : MethodName := ⟨RX2, "keep", "(I)I"⟩
def dkwX2_keep_2 : List UInt8 := [42, 180, 0, 35, 29, 46, 79, 132, 3, 1, 167, 255, 230, 28, 172]
abbrev dktX2_keep_2 : List UInt8 := dkwX2_keep_2 ++ []
def dkwX2_keep_1 : List UInt8 := [180, 0, 41, 27, 4, 84, 3, 62, 29, 16, 49, 162, 0, 26, 42, 180, 0, 38, 16, 49, 27, 104, 29, 96]
abbrev dktX2_keep_1 : List UInt8 := dkwX2_keep_1 ++ dktX2_keep_2
def dkwX2_keep_0 : List UInt8 := [27, 133, 9, 10, 184, 0, 131, 154, 0, 5, 2, 172, 42, 180, 0, 41, 27, 51, 184, 0, 194, 61, 42]
abbrev dktX2_keep_0 : List UInt8 := dkwX2_keep_0 ++ dktX2_keep_1
theorem dksX2_keep_0 : cX2_keep.data.toList.drop 0 = dktX2_keep_0 := by decide +kernel
theorem dksX2_keep_1 : cX2_keep.data.toList.drop 23 = dktX2_keep_1 := dk_seg dksX2_keep_0 23 rfl rfl
theorem dksX2_keep_2 : cX2_keep.data.toList.drop 47 = dktX2_keep_2 := dk_seg dksX2_keep_1 24 rfl rfl
theorem dX2_keep_0 : decode cX2_keep 0 = .ok (.iload_n 1, 1) := dk_27 (dk_at dksX2_keep_0 0 rfl rfl)
theorem dX2_keep_1 : decode cX2_keep 1 = .ok (.i2l, 1) := dk_133 (dk_at dksX2_keep_0 1 rfl rfl)
theorem dX2_keep_2 : decode cX2_keep 2 = .ok (.lconst 0, 1) := dk_9 (dk_at dksX2_keep_0 2 rfl rfl)
theorem dX2_keep_3 : decode cX2_keep 3 = .ok (.lconst 1, 1) := dk_10 (dk_at dksX2_keep_0 3 rfl rfl)
theorem dX2_keep_4 : decode cX2_keep 4 = .ok (.invokestatic 131, 3) := dk_184 0 131 (dk_at dksX2_keep_0 4 rfl rfl)
theorem dX2_keep_7 : decode cX2_keep 7 = .ok (.ifCond .ne 5, 3) := dk_154 0 5 (dk_at dksX2_keep_0 7 rfl rfl)
theorem dX2_keep_10 : decode cX2_keep 10 = .ok (.iconst (-1), 1) := dk_2 (dk_at dksX2_keep_0 10 rfl rfl)
theorem dX2_keep_11 : decode cX2_keep 11 = .ok (.ireturn, 1) := dk_172 (dk_at dksX2_keep_0 11 rfl rfl)
theorem dX2_keep_12 : decode cX2_keep 12 = .ok (.aload_n 0, 1) := dk_42 (dk_at dksX2_keep_0 12 rfl rfl)
theorem dX2_keep_13 : decode cX2_keep 13 = .ok (.getfield 41, 3) := dk_180 0 41 (dk_at dksX2_keep_0 13 rfl rfl)
theorem dX2_keep_16 : decode cX2_keep 16 = .ok (.iload_n 1, 1) := dk_27 (dk_at dksX2_keep_0 16 rfl rfl)
theorem dX2_keep_17 : decode cX2_keep 17 = .ok (.baload, 1) := dk_51 (dk_at dksX2_keep_0 17 rfl rfl)
theorem dX2_keep_18 : decode cX2_keep 18 = .ok (.invokestatic 194, 3) := dk_184 0 194 (dk_at dksX2_keep_0 18 rfl rfl)
theorem dX2_keep_21 : decode cX2_keep 21 = .ok (.istore_n 2, 1) := dk_61 (dk_at dksX2_keep_0 21 rfl rfl)
theorem dX2_keep_22 : decode cX2_keep 22 = .ok (.aload_n 0, 1) := dk_42 (dk_at dksX2_keep_0 22 rfl rfl)
theorem dX2_keep_23 : decode cX2_keep 23 = .ok (.getfield 41, 3) := dk_180 0 41 (dk_at dksX2_keep_1 0 rfl rfl)
theorem dX2_keep_26 : decode cX2_keep 26 = .ok (.iload_n 1, 1) := dk_27 (dk_at dksX2_keep_1 3 rfl rfl)
theorem dX2_keep_27 : decode cX2_keep 27 = .ok (.iconst 1, 1) := dk_4 (dk_at dksX2_keep_1 4 rfl rfl)
theorem dX2_keep_28 : decode cX2_keep 28 = .ok (.bastore, 1) := dk_84 (dk_at dksX2_keep_1 5 rfl rfl)
theorem dX2_keep_29 : decode cX2_keep 29 = .ok (.iconst 0, 1) := dk_3 (dk_at dksX2_keep_1 6 rfl rfl)
theorem dX2_keep_30 : decode cX2_keep 30 = .ok (.istore_n 3, 1) := dk_62 (dk_at dksX2_keep_1 7 rfl rfl)
theorem dX2_keep_31 : decode cX2_keep 31 = .ok (.iload_n 3, 1) := dk_29 (dk_at dksX2_keep_1 8 rfl rfl)
theorem dX2_keep_32 : decode cX2_keep 32 = .ok (.bipush 49, 2) := dk_16 49 (dk_at dksX2_keep_1 9 rfl rfl)
theorem dX2_keep_34 : decode cX2_keep 34 = .ok (.if_icmp .ge 26, 3) := dk_162 0 26 (dk_at dksX2_keep_1 11 rfl rfl)
theorem dX2_keep_37 : decode cX2_keep 37 = .ok (.aload_n 0, 1) := dk_42 (dk_at dksX2_keep_1 14 rfl rfl)
theorem dX2_keep_38 : decode cX2_keep 38 = .ok (.getfield 38, 3) := dk_180 0 38 (dk_at dksX2_keep_1 15 rfl rfl)
theorem dX2_keep_41 : decode cX2_keep 41 = .ok (.bipush 49, 2) := dk_16 49 (dk_at dksX2_keep_1 18 rfl rfl)
theorem dX2_keep_43 : decode cX2_keep 43 = .ok (.iload_n 1, 1) := dk_27 (dk_at dksX2_keep_1 20 rfl rfl)
theorem dX2_keep_44 : decode cX2_keep 44 = .ok (.imul, 1) := dk_104 (dk_at dksX2_keep_1 21 rfl rfl)
theorem dX2_keep_45 : decode cX2_keep 45 = .ok (.iload_n 3, 1) := dk_29 (dk_at dksX2_keep_1 22 rfl rfl)
theorem dX2_keep_46 : decode cX2_keep 46 = .ok (.iadd, 1) := dk_96 (dk_at dksX2_keep_1 23 rfl rfl)
theorem dX2_keep_47 : decode cX2_keep 47 = .ok (.aload_n 0, 1) := dk_42 (dk_at dksX2_keep_2 0 rfl rfl)
theorem dX2_keep_48 : decode cX2_keep 48 = .ok (.getfield 35, 3) := dk_180 0 35 (dk_at dksX2_keep_2 1 rfl rfl)
theorem dX2_keep_51 : decode cX2_keep 51 = .ok (.iload_n 3, 1) := dk_29 (dk_at dksX2_keep_2 4 rfl rfl)
theorem dX2_keep_52 : decode cX2_keep 52 = .ok (.iaload, 1) := dk_46 (dk_at dksX2_keep_2 5 rfl rfl)
theorem dX2_keep_53 : decode cX2_keep 53 = .ok (.iastore, 1) := dk_79 (dk_at dksX2_keep_2 6 rfl rfl)
theorem dX2_keep_54 : decode cX2_keep 54 = .ok (.iinc 3 1, 3) := dk_132 3 1 (dk_at dksX2_keep_2 7 rfl rfl)
theorem dX2_keep_57 : decode cX2_keep 57 = .ok (.goto (-26), 3) := dk_167 255 230 (dk_at dksX2_keep_2 10 rfl rfl)
theorem dX2_keep_60 : decode cX2_keep 60 = .ok (.iload_n 2, 1) := dk_28 (dk_at dksX2_keep_2 13 rfl rfl)
theorem dX2_keep_61 : decode cX2_keep 61 = .ok (.ireturn, 1) := dk_172 (dk_at dksX2_keep_2 14 rfl rfl)
abbrev cX2_back : ByteArray := prog_21_method_84_code
def yX2_back : MethodName := ⟨RX2, "back", "(I)I"⟩
def dkwX2_back_2 : List UInt8 := [79, 132, 2, 1, 167, 255, 230, 42, 180, 0, 35, 3, 46, 172]
abbrev dktX2_back_2 : List UInt8 := dkwX2_back_2 ++ []
def dkwX2_back_1 : List UInt8 := [3, 61, 28, 16, 49, 162, 0, 26, 42, 180, 0, 35, 28, 42, 180, 0, 38, 16, 49, 27, 104, 28, 96, 46]
abbrev dktX2_back_1 : List UInt8 := dkwX2_back_1 ++ dktX2_back_2
def dkwX2_back_0 : List UInt8 := [27, 133, 9, 10, 184, 0, 131, 154, 0, 5, 2, 172, 42, 180, 0, 41, 27, 51, 154, 0, 6, 16, 254, 172]
abbrev dktX2_back_0 : List UInt8 := dkwX2_back_0 ++ dktX2_back_1
theorem dksX2_back_0 : cX2_back.data.toList.drop 0 = dktX2_back_0 := by decide +kernel
theorem dksX2_back_1 : cX2_back.data.toList.drop 24 = dktX2_back_1 := dk_seg dksX2_back_0 24 rfl rfl
theorem dksX2_back_2 : cX2_back.data.toList.drop 48 = dktX2_back_2 := dk_seg dksX2_back_1 24 rfl rfl
theorem dX2_back_0 : decode cX2_back 0 = .ok (.iload_n 1, 1) := dk_27 (dk_at dksX2_back_0 0 rfl rfl)
theorem dX2_back_1 : decode cX2_back 1 = .ok (.i2l, 1) := dk_133 (dk_at dksX2_back_0 1 rfl rfl)
theorem dX2_back_2 : decode cX2_back 2 = .ok (.lconst 0, 1) := dk_9 (dk_at dksX2_back_0 2 rfl rfl)
theorem dX2_back_3 : decode cX2_back 3 = .ok (.lconst 1, 1) := dk_10 (dk_at dksX2_back_0 3 rfl rfl)
theorem dX2_back_4 : decode cX2_back 4 = .ok (.invokestatic 131, 3) := dk_184 0 131 (dk_at dksX2_back_0 4 rfl rfl)
theorem dX2_back_7 : decode cX2_back 7 = .ok (.ifCond .ne 5, 3) := dk_154 0 5 (dk_at dksX2_back_0 7 rfl rfl)
theorem dX2_back_10 : decode cX2_back 10 = .ok (.iconst (-1), 1) := dk_2 (dk_at dksX2_back_0 10 rfl rfl)
theorem dX2_back_11 : decode cX2_back 11 = .ok (.ireturn, 1) := dk_172 (dk_at dksX2_back_0 11 rfl rfl)
theorem dX2_back_12 : decode cX2_back 12 = .ok (.aload_n 0, 1) := dk_42 (dk_at dksX2_back_0 12 rfl rfl)
theorem dX2_back_13 : decode cX2_back 13 = .ok (.getfield 41, 3) := dk_180 0 41 (dk_at dksX2_back_0 13 rfl rfl)
theorem dX2_back_16 : decode cX2_back 16 = .ok (.iload_n 1, 1) := dk_27 (dk_at dksX2_back_0 16 rfl rfl)
theorem dX2_back_17 : decode cX2_back 17 = .ok (.baload, 1) := dk_51 (dk_at dksX2_back_0 17 rfl rfl)
theorem dX2_back_18 : decode cX2_back 18 = .ok (.ifCond .ne 6, 3) := dk_154 0 6 (dk_at dksX2_back_0 18 rfl rfl)
theorem dX2_back_21 : decode cX2_back 21 = .ok (.bipush (-2), 2) := dk_16 254 (dk_at dksX2_back_0 21 rfl rfl)
theorem dX2_back_23 : decode cX2_back 23 = .ok (.ireturn, 1) := dk_172 (dk_at dksX2_back_0 23 rfl rfl)
theorem dX2_back_24 : decode cX2_back 24 = .ok (.iconst 0, 1) := dk_3 (dk_at dksX2_back_1 0 rfl rfl)
theorem dX2_back_25 : decode cX2_back 25 = .ok (.istore_n 2, 1) := dk_61 (dk_at dksX2_back_1 1 rfl rfl)
theorem dX2_back_26 : decode cX2_back 26 = .ok (.iload_n 2, 1) := dk_28 (dk_at dksX2_back_1 2 rfl rfl)
theorem dX2_back_27 : decode cX2_back 27 = .ok (.bipush 49, 2) := dk_16 49 (dk_at dksX2_back_1 3 rfl rfl)
theorem dX2_back_29 : decode cX2_back 29 = .ok (.if_icmp .ge 26, 3) := dk_162 0 26 (dk_at dksX2_back_1 5 rfl rfl)
theorem dX2_back_32 : decode cX2_back 32 = .ok (.aload_n 0, 1) := dk_42 (dk_at dksX2_back_1 8 rfl rfl)
theorem dX2_back_33 : decode cX2_back 33 = .ok (.getfield 35, 3) := dk_180 0 35 (dk_at dksX2_back_1 9 rfl rfl)
theorem dX2_back_36 : decode cX2_back 36 = .ok (.iload_n 2, 1) := dk_28 (dk_at dksX2_back_1 12 rfl rfl)
theorem dX2_back_37 : decode cX2_back 37 = .ok (.aload_n 0, 1) := dk_42 (dk_at dksX2_back_1 13 rfl rfl)
theorem dX2_back_38 : decode cX2_back 38 = .ok (.getfield 38, 3) := dk_180 0 38 (dk_at dksX2_back_1 14 rfl rfl)
theorem dX2_back_41 : decode cX2_back 41 = .ok (.bipush 49, 2) := dk_16 49 (dk_at dksX2_back_1 17 rfl rfl)
theorem dX2_back_43 : decode cX2_back 43 = .ok (.iload_n 1, 1) := dk_27 (dk_at dksX2_back_1 19 rfl rfl)
theorem dX2_back_44 : decode cX2_back 44 = .ok (.imul, 1) := dk_104 (dk_at dksX2_back_1 20 rfl rfl)
theorem dX2_back_45 : decode cX2_back 45 = .ok (.iload_n 2, 1) := dk_28 (dk_at dksX2_back_1 21 rfl rfl)
theorem dX2_back_46 : decode cX2_back 46 = .ok (.iadd, 1) := dk_96 (dk_at dksX2_back_1 22 rfl rfl)
theorem dX2_back_47 : decode cX2_back 47 = .ok (.iaload, 1) := dk_46 (dk_at dksX2_back_1 23 rfl rfl)
theorem dX2_back_48 : decode cX2_back 48 = .ok (.iastore, 1) := dk_79 (dk_at dksX2_back_2 0 rfl rfl)
theorem dX2_back_49 : decode cX2_back 49 = .ok (.iinc 2 1, 3) := dk_132 2 1 (dk_at dksX2_back_2 1 rfl rfl)
theorem dX2_back_52 : decode cX2_back 52 = .ok (.goto (-26), 3) := dk_167 255 230 (dk_at dksX2_back_2 4 rfl rfl)
theorem dX2_back_55 : decode cX2_back 55 = .ok (.aload_n 0, 1) := dk_42 (dk_at dksX2_back_2 7 rfl rfl)
theorem dX2_back_56 : decode cX2_back 56 = .ok (.getfield 35, 3) := dk_180 0 35 (dk_at dksX2_back_2 8 rfl rfl)
theorem dX2_back_59 : decode cX2_back 59 = .ok (.iconst 0, 1) := dk_3 (dk_at dksX2_back_2 11 rfl rfl)
theorem dX2_back_60 : decode cX2_back 60 = .ok (.iaload, 1) := dk_46 (dk_at dksX2_back_2 12 rfl rfl)
theorem dX2_back_61 : decode cX2_back 61 = .ok (.ireturn, 1) := dk_172 (dk_at dksX2_back_2 13 rfl rfl)
abbrev cX2_sheet : ByteArray := prog_21_method_86_code
def yX2_sheet : MethodName := ⟨RX2, "sheet", "(III)I"⟩
def dkwX2_sheet_2 : List UInt8 := [180, 0, 126, 16, 40, 27, 104, 21, 4, 96, 3, 79, 132, 4, 1, 167, 255, 233, 4, 172]
abbrev dktX2_sheet_2 : List UInt8 := dkwX2_sheet_2 ++ []
def dkwX2_sheet_1 : List UInt8 := [180, 0, 120, 27, 28, 79, 42, 180, 0, 123, 27, 29, 79, 3, 54, 4, 21, 4, 16, 40, 162, 0, 22, 42]
abbrev dktX2_sheet_1 : List UInt8 := dkwX2_sheet_1 ++ dktX2_sheet_2
def dkwX2_sheet_0 : List UInt8 := [27, 28, 184, 1, 150, 153, 0, 9, 29, 16, 40, 164, 0, 5, 2, 172, 29, 156, 0, 6, 16, 242, 172, 42]
abbrev dktX2_sheet_0 : List UInt8 := dkwX2_sheet_0 ++ dktX2_sheet_1
theorem dksX2_sheet_0 : cX2_sheet.data.toList.drop 0 = dktX2_sheet_0 := by decide +kernel
theorem dksX2_sheet_1 : cX2_sheet.data.toList.drop 24 = dktX2_sheet_1 := dk_seg dksX2_sheet_0 24 rfl rfl
theorem dksX2_sheet_2 : cX2_sheet.data.toList.drop 48 = dktX2_sheet_2 := dk_seg dksX2_sheet_1 24 rfl rfl
theorem dX2_sheet_0 : decode cX2_sheet 0 = .ok (.iload_n 1, 1) := dk_27 (dk_at dksX2_sheet_0 0 rfl rfl)
theorem dX2_sheet_1 : decode cX2_sheet 1 = .ok (.iload_n 2, 1) := dk_28 (dk_at dksX2_sheet_0 1 rfl rfl)
theorem dX2_sheet_2 : decode cX2_sheet 2 = .ok (.invokestatic 406, 3) := dk_184 1 150 (dk_at dksX2_sheet_0 2 rfl rfl)
theorem dX2_sheet_5 : decode cX2_sheet 5 = .ok (.ifCond .eq 9, 3) := dk_153 0 9 (dk_at dksX2_sheet_0 5 rfl rfl)
theorem dX2_sheet_8 : decode cX2_sheet 8 = .ok (.iload_n 3, 1) := dk_29 (dk_at dksX2_sheet_0 8 rfl rfl)
theorem dX2_sheet_9 : decode cX2_sheet 9 = .ok (.bipush 40, 2) := dk_16 40 (dk_at dksX2_sheet_0 9 rfl rfl)
theorem dX2_sheet_11 : decode cX2_sheet 11 = .ok (.if_icmp .le 5, 3) := dk_164 0 5 (dk_at dksX2_sheet_0 11 rfl rfl)
theorem dX2_sheet_14 : decode cX2_sheet 14 = .ok (.iconst (-1), 1) := dk_2 (dk_at dksX2_sheet_0 14 rfl rfl)
theorem dX2_sheet_15 : decode cX2_sheet 15 = .ok (.ireturn, 1) := dk_172 (dk_at dksX2_sheet_0 15 rfl rfl)
theorem dX2_sheet_16 : decode cX2_sheet 16 = .ok (.iload_n 3, 1) := dk_29 (dk_at dksX2_sheet_0 16 rfl rfl)
theorem dX2_sheet_17 : decode cX2_sheet 17 = .ok (.ifCond .ge 6, 3) := dk_156 0 6 (dk_at dksX2_sheet_0 17 rfl rfl)
theorem dX2_sheet_20 : decode cX2_sheet 20 = .ok (.bipush (-14), 2) := dk_16 242 (dk_at dksX2_sheet_0 20 rfl rfl)
theorem dX2_sheet_22 : decode cX2_sheet 22 = .ok (.ireturn, 1) := dk_172 (dk_at dksX2_sheet_0 22 rfl rfl)
theorem dX2_sheet_23 : decode cX2_sheet 23 = .ok (.aload_n 0, 1) := dk_42 (dk_at dksX2_sheet_0 23 rfl rfl)
theorem dX2_sheet_24 : decode cX2_sheet 24 = .ok (.getfield 120, 3) := dk_180 0 120 (dk_at dksX2_sheet_1 0 rfl rfl)
theorem dX2_sheet_27 : decode cX2_sheet 27 = .ok (.iload_n 1, 1) := dk_27 (dk_at dksX2_sheet_1 3 rfl rfl)
theorem dX2_sheet_28 : decode cX2_sheet 28 = .ok (.iload_n 2, 1) := dk_28 (dk_at dksX2_sheet_1 4 rfl rfl)
theorem dX2_sheet_29 : decode cX2_sheet 29 = .ok (.iastore, 1) := dk_79 (dk_at dksX2_sheet_1 5 rfl rfl)
theorem dX2_sheet_30 : decode cX2_sheet 30 = .ok (.aload_n 0, 1) := dk_42 (dk_at dksX2_sheet_1 6 rfl rfl)
theorem dX2_sheet_31 : decode cX2_sheet 31 = .ok (.getfield 123, 3) := dk_180 0 123 (dk_at dksX2_sheet_1 7 rfl rfl)
theorem dX2_sheet_34 : decode cX2_sheet 34 = .ok (.iload_n 1, 1) := dk_27 (dk_at dksX2_sheet_1 10 rfl rfl)
theorem dX2_sheet_35 : decode cX2_sheet 35 = .ok (.iload_n 3, 1) := dk_29 (dk_at dksX2_sheet_1 11 rfl rfl)
theorem dX2_sheet_36 : decode cX2_sheet 36 = .ok (.iastore, 1) := dk_79 (dk_at dksX2_sheet_1 12 rfl rfl)
theorem dX2_sheet_37 : decode cX2_sheet 37 = .ok (.iconst 0, 1) := dk_3 (dk_at dksX2_sheet_1 13 rfl rfl)
theorem dX2_sheet_38 : decode cX2_sheet 38 = .ok (.istore 4, 2) := dk_54 4 (dk_at dksX2_sheet_1 14 rfl rfl)
theorem dX2_sheet_40 : decode cX2_sheet 40 = .ok (.iload 4, 2) := dk_21 4 (dk_at dksX2_sheet_1 16 rfl rfl)
theorem dX2_sheet_42 : decode cX2_sheet 42 = .ok (.bipush 40, 2) := dk_16 40 (dk_at dksX2_sheet_1 18 rfl rfl)
theorem dX2_sheet_44 : decode cX2_sheet 44 = .ok (.if_icmp .ge 22, 3) := dk_162 0 22 (dk_at dksX2_sheet_1 20 rfl rfl)
theorem dX2_sheet_47 : decode cX2_sheet 47 = .ok (.aload_n 0, 1) := dk_42 (dk_at dksX2_sheet_1 23 rfl rfl)
theorem dX2_sheet_48 : decode cX2_sheet 48 = .ok (.getfield 126, 3) := dk_180 0 126 (dk_at dksX2_sheet_2 0 rfl rfl)
theorem dX2_sheet_51 : decode cX2_sheet 51 = .ok (.bipush 40, 2) := dk_16 40 (dk_at dksX2_sheet_2 3 rfl rfl)
theorem dX2_sheet_53 : decode cX2_sheet 53 = .ok (.iload_n 1, 1) := dk_27 (dk_at dksX2_sheet_2 5 rfl rfl)
theorem dX2_sheet_54 : decode cX2_sheet 54 = .ok (.imul, 1) := dk_104 (dk_at dksX2_sheet_2 6 rfl rfl)
theorem dX2_sheet_55 : decode cX2_sheet 55 = .ok (.iload 4, 2) := dk_21 4 (dk_at dksX2_sheet_2 7 rfl rfl)
theorem dX2_sheet_57 : decode cX2_sheet 57 = .ok (.iadd, 1) := dk_96 (dk_at dksX2_sheet_2 9 rfl rfl)
theorem dX2_sheet_58 : decode cX2_sheet 58 = .ok (.iconst 0, 1) := dk_3 (dk_at dksX2_sheet_2 10 rfl rfl)
theorem dX2_sheet_59 : decode cX2_sheet 59 = .ok (.iastore, 1) := dk_79 (dk_at dksX2_sheet_2 11 rfl rfl)
theorem dX2_sheet_60 : decode cX2_sheet 60 = .ok (.iinc 4 1, 3) := dk_132 4 1 (dk_at dksX2_sheet_2 12 rfl rfl)
theorem dX2_sheet_63 : decode cX2_sheet 63 = .ok (.goto (-23), 3) := dk_167 255 233 (dk_at dksX2_sheet_2 15 rfl rfl)
theorem dX2_sheet_66 : decode cX2_sheet 66 = .ok (.iconst 1, 1) := dk_4 (dk_at dksX2_sheet_2 18 rfl rfl)
theorem dX2_sheet_67 : decode cX2_sheet 67 = .ok (.ireturn, 1) := dk_172 (dk_at dksX2_sheet_2 19 rfl rfl)
abbrev cX2_isSheet : ByteArray := prog_21_method_85_code
def yX2_isSheet : MethodName := ⟨RX2, "isSheet", "(II)Z"⟩
def dkwX2_isSheet_1 : List UInt8 := [4, 167, 0, 4, 3, 172]
abbrev dktX2_isSheet_1 : List UInt8 := dkwX2_isSheet_1 ++ []
def dkwX2_isSheet_0 : List UInt8 := [26, 133, 9, 20, 1, 148, 184, 0, 131, 153, 0, 19, 27, 133, 9, 20, 1, 51, 184, 0, 131, 153, 0, 7]
abbrev dktX2_isSheet_0 : List UInt8 := dkwX2_isSheet_0 ++ dktX2_isSheet_1
theorem dksX2_isSheet_0 : cX2_isSheet.data.toList.drop 0 = dktX2_isSheet_0 := by decide +kernel
theorem dksX2_isSheet_1 : cX2_isSheet.data.toList.drop 24 = dktX2_isSheet_1 := dk_seg dksX2_isSheet_0 24 rfl rfl
theorem dX2_isSheet_0 : decode cX2_isSheet 0 = .ok (.iload_n 0, 1) := dk_26 (dk_at dksX2_isSheet_0 0 rfl rfl)
theorem dX2_isSheet_1 : decode cX2_isSheet 1 = .ok (.i2l, 1) := dk_133 (dk_at dksX2_isSheet_0 1 rfl rfl)
theorem dX2_isSheet_2 : decode cX2_isSheet 2 = .ok (.lconst 0, 1) := dk_9 (dk_at dksX2_isSheet_0 2 rfl rfl)
theorem dX2_isSheet_3 : decode cX2_isSheet 3 = .ok (.ldc2_w 404, 3) := dk_20 1 148 (dk_at dksX2_isSheet_0 3 rfl rfl)
theorem dX2_isSheet_6 : decode cX2_isSheet 6 = .ok (.invokestatic 131, 3) := dk_184 0 131 (dk_at dksX2_isSheet_0 6 rfl rfl)
theorem dX2_isSheet_9 : decode cX2_isSheet 9 = .ok (.ifCond .eq 19, 3) := dk_153 0 19 (dk_at dksX2_isSheet_0 9 rfl rfl)
theorem dX2_isSheet_12 : decode cX2_isSheet 12 = .ok (.iload_n 1, 1) := dk_27 (dk_at dksX2_isSheet_0 12 rfl rfl)
theorem dX2_isSheet_13 : decode cX2_isSheet 13 = .ok (.i2l, 1) := dk_133 (dk_at dksX2_isSheet_0 13 rfl rfl)
theorem dX2_isSheet_14 : decode cX2_isSheet 14 = .ok (.lconst 0, 1) := dk_9 (dk_at dksX2_isSheet_0 14 rfl rfl)
theorem dX2_isSheet_15 : decode cX2_isSheet 15 = .ok (.ldc2_w 307, 3) := dk_20 1 51 (dk_at dksX2_isSheet_0 15 rfl rfl)
theorem dX2_isSheet_18 : decode cX2_isSheet 18 = .ok (.invokestatic 131, 3) := dk_184 0 131 (dk_at dksX2_isSheet_0 18 rfl rfl)
theorem dX2_isSheet_21 : decode cX2_isSheet 21 = .ok (.ifCond .eq 7, 3) := dk_153 0 7 (dk_at dksX2_isSheet_0 21 rfl rfl)
theorem dX2_isSheet_24 : decode cX2_isSheet 24 = .ok (.iconst 1, 1) := dk_4 (dk_at dksX2_isSheet_1 0 rfl rfl)
theorem dX2_isSheet_25 : decode cX2_isSheet 25 = .ok (.goto 4, 3) := dk_167 0 4 (dk_at dksX2_isSheet_1 1 rfl rfl)
theorem dX2_isSheet_28 : decode cX2_isSheet 28 = .ok (.iconst 0, 1) := dk_3 (dk_at dksX2_isSheet_1 4 rfl rfl)
theorem dX2_isSheet_29 : decode cX2_isSheet 29 = .ok (.ireturn, 1) := dk_172 (dk_at dksX2_isSheet_1 5 rfl rfl)
abbrev cX2_lay : ByteArray := prog_21_method_87_code
def yX2_lay : MethodName := ⟨RX2, "lay", "(III)I"⟩
def dkwX2_lay_3 : List UInt8 := [180, 0, 120, 27, 46, 4, 160, 0, 11, 29, 19, 1, 153, 126, 167, 0, 4, 29, 79, 4, 172]
abbrev dktX2_lay_3 : List UInt8 := dkwX2_lay_3 ++ []
def dkwX2_lay_2 : List UInt8 := [180, 0, 126, 16, 40, 27, 104, 28, 96, 42, 180, 0, 120, 27, 46, 154, 0, 8, 29, 145, 167, 0, 22, 42]
abbrev dktX2_lay_2 : List UInt8 := dkwX2_lay_2 ++ dktX2_lay_3
def dkwX2_lay_1 : List UInt8 := [28, 133, 9, 42, 180, 0, 123, 27, 46, 4, 100, 133, 184, 0, 131, 154, 0, 6, 16, 243, 172, 42]
abbrev dktX2_lay_1 : List UInt8 := dkwX2_lay_1 ++ dktX2_lay_2
def dkwX2_lay_0 : List UInt8 := [27, 3, 184, 1, 150, 154, 0, 5, 2, 172, 42, 180, 0, 120, 27, 46, 16, 252, 160, 0, 6, 16, 245, 172]
abbrev dktX2_lay_0 : List UInt8 := dkwX2_lay_0 ++ dktX2_lay_1
theorem dksX2_lay_0 : cX2_lay.data.toList.drop 0 = dktX2_lay_0 := by decide +kernel
theorem dksX2_lay_1 : cX2_lay.data.toList.drop 24 = dktX2_lay_1 := dk_seg dksX2_lay_0 24 rfl rfl
theorem dksX2_lay_2 : cX2_lay.data.toList.drop 46 = dktX2_lay_2 := dk_seg dksX2_lay_1 22 rfl rfl
theorem dksX2_lay_3 : cX2_lay.data.toList.drop 70 = dktX2_lay_3 := dk_seg dksX2_lay_2 24 rfl rfl
theorem dX2_lay_0 : decode cX2_lay 0 = .ok (.iload_n 1, 1) := dk_27 (dk_at dksX2_lay_0 0 rfl rfl)
theorem dX2_lay_1 : decode cX2_lay 1 = .ok (.iconst 0, 1) := dk_3 (dk_at dksX2_lay_0 1 rfl rfl)
theorem dX2_lay_2 : decode cX2_lay 2 = .ok (.invokestatic 406, 3) := dk_184 1 150 (dk_at dksX2_lay_0 2 rfl rfl)
theorem dX2_lay_5 : decode cX2_lay 5 = .ok (.ifCond .ne 5, 3) := dk_154 0 5 (dk_at dksX2_lay_0 5 rfl rfl)
theorem dX2_lay_8 : decode cX2_lay 8 = .ok (.iconst (-1), 1) := dk_2 (dk_at dksX2_lay_0 8 rfl rfl)
theorem dX2_lay_9 : decode cX2_lay 9 = .ok (.ireturn, 1) := dk_172 (dk_at dksX2_lay_0 9 rfl rfl)
theorem dX2_lay_10 : decode cX2_lay 10 = .ok (.aload_n 0, 1) := dk_42 (dk_at dksX2_lay_0 10 rfl rfl)
theorem dX2_lay_11 : decode cX2_lay 11 = .ok (.getfield 120, 3) := dk_180 0 120 (dk_at dksX2_lay_0 11 rfl rfl)
theorem dX2_lay_14 : decode cX2_lay 14 = .ok (.iload_n 1, 1) := dk_27 (dk_at dksX2_lay_0 14 rfl rfl)
theorem dX2_lay_15 : decode cX2_lay 15 = .ok (.iaload, 1) := dk_46 (dk_at dksX2_lay_0 15 rfl rfl)
theorem dX2_lay_16 : decode cX2_lay 16 = .ok (.bipush (-4), 2) := dk_16 252 (dk_at dksX2_lay_0 16 rfl rfl)
theorem dX2_lay_18 : decode cX2_lay 18 = .ok (.if_icmp .ne 6, 3) := dk_160 0 6 (dk_at dksX2_lay_0 18 rfl rfl)
theorem dX2_lay_21 : decode cX2_lay 21 = .ok (.bipush (-11), 2) := dk_16 245 (dk_at dksX2_lay_0 21 rfl rfl)
theorem dX2_lay_23 : decode cX2_lay 23 = .ok (.ireturn, 1) := dk_172 (dk_at dksX2_lay_0 23 rfl rfl)
theorem dX2_lay_24 : decode cX2_lay 24 = .ok (.iload_n 2, 1) := dk_28 (dk_at dksX2_lay_1 0 rfl rfl)
theorem dX2_lay_25 : decode cX2_lay 25 = .ok (.i2l, 1) := dk_133 (dk_at dksX2_lay_1 1 rfl rfl)
theorem dX2_lay_26 : decode cX2_lay 26 = .ok (.lconst 0, 1) := dk_9 (dk_at dksX2_lay_1 2 rfl rfl)
theorem dX2_lay_27 : decode cX2_lay 27 = .ok (.aload_n 0, 1) := dk_42 (dk_at dksX2_lay_1 3 rfl rfl)
theorem dX2_lay_28 : decode cX2_lay 28 = .ok (.getfield 123, 3) := dk_180 0 123 (dk_at dksX2_lay_1 4 rfl rfl)
theorem dX2_lay_31 : decode cX2_lay 31 = .ok (.iload_n 1, 1) := dk_27 (dk_at dksX2_lay_1 7 rfl rfl)
theorem dX2_lay_32 : decode cX2_lay 32 = .ok (.iaload, 1) := dk_46 (dk_at dksX2_lay_1 8 rfl rfl)
theorem dX2_lay_33 : decode cX2_lay 33 = .ok (.iconst 1, 1) := dk_4 (dk_at dksX2_lay_1 9 rfl rfl)
theorem dX2_lay_34 : decode cX2_lay 34 = .ok (.isub, 1) := dk_100 (dk_at dksX2_lay_1 10 rfl rfl)
theorem dX2_lay_35 : decode cX2_lay 35 = .ok (.i2l, 1) := dk_133 (dk_at dksX2_lay_1 11 rfl rfl)
theorem dX2_lay_36 : decode cX2_lay 36 = .ok (.invokestatic 131, 3) := dk_184 0 131 (dk_at dksX2_lay_1 12 rfl rfl)
theorem dX2_lay_39 : decode cX2_lay 39 = .ok (.ifCond .ne 6, 3) := dk_154 0 6 (dk_at dksX2_lay_1 15 rfl rfl)
theorem dX2_lay_42 : decode cX2_lay 42 = .ok (.bipush (-13), 2) := dk_16 243 (dk_at dksX2_lay_1 18 rfl rfl)
theorem dX2_lay_44 : decode cX2_lay 44 = .ok (.ireturn, 1) := dk_172 (dk_at dksX2_lay_1 20 rfl rfl)
theorem dX2_lay_45 : decode cX2_lay 45 = .ok (.aload_n 0, 1) := dk_42 (dk_at dksX2_lay_1 21 rfl rfl)
theorem dX2_lay_46 : decode cX2_lay 46 = .ok (.getfield 126, 3) := dk_180 0 126 (dk_at dksX2_lay_2 0 rfl rfl)
theorem dX2_lay_49 : decode cX2_lay 49 = .ok (.bipush 40, 2) := dk_16 40 (dk_at dksX2_lay_2 3 rfl rfl)
theorem dX2_lay_51 : decode cX2_lay 51 = .ok (.iload_n 1, 1) := dk_27 (dk_at dksX2_lay_2 5 rfl rfl)
theorem dX2_lay_52 : decode cX2_lay 52 = .ok (.imul, 1) := dk_104 (dk_at dksX2_lay_2 6 rfl rfl)
theorem dX2_lay_53 : decode cX2_lay 53 = .ok (.iload_n 2, 1) := dk_28 (dk_at dksX2_lay_2 7 rfl rfl)
theorem dX2_lay_54 : decode cX2_lay 54 = .ok (.iadd, 1) := dk_96 (dk_at dksX2_lay_2 8 rfl rfl)
theorem dX2_lay_55 : decode cX2_lay 55 = .ok (.aload_n 0, 1) := dk_42 (dk_at dksX2_lay_2 9 rfl rfl)
theorem dX2_lay_56 : decode cX2_lay 56 = .ok (.getfield 120, 3) := dk_180 0 120 (dk_at dksX2_lay_2 10 rfl rfl)
theorem dX2_lay_59 : decode cX2_lay 59 = .ok (.iload_n 1, 1) := dk_27 (dk_at dksX2_lay_2 13 rfl rfl)
theorem dX2_lay_60 : decode cX2_lay 60 = .ok (.iaload, 1) := dk_46 (dk_at dksX2_lay_2 14 rfl rfl)
theorem dX2_lay_61 : decode cX2_lay 61 = .ok (.ifCond .ne 8, 3) := dk_154 0 8 (dk_at dksX2_lay_2 15 rfl rfl)
theorem dX2_lay_64 : decode cX2_lay 64 = .ok (.iload_n 3, 1) := dk_29 (dk_at dksX2_lay_2 18 rfl rfl)
theorem dX2_lay_65 : decode cX2_lay 65 = .ok (.i2b, 1) := dk_145 (dk_at dksX2_lay_2 19 rfl rfl)
theorem dX2_lay_66 : decode cX2_lay 66 = .ok (.goto 22, 3) := dk_167 0 22 (dk_at dksX2_lay_2 20 rfl rfl)
theorem dX2_lay_69 : decode cX2_lay 69 = .ok (.aload_n 0, 1) := dk_42 (dk_at dksX2_lay_2 23 rfl rfl)
theorem dX2_lay_70 : decode cX2_lay 70 = .ok (.getfield 120, 3) := dk_180 0 120 (dk_at dksX2_lay_3 0 rfl rfl)
theorem dX2_lay_73 : decode cX2_lay 73 = .ok (.iload_n 1, 1) := dk_27 (dk_at dksX2_lay_3 3 rfl rfl)
theorem dX2_lay_74 : decode cX2_lay 74 = .ok (.iaload, 1) := dk_46 (dk_at dksX2_lay_3 4 rfl rfl)
theorem dX2_lay_75 : decode cX2_lay 75 = .ok (.iconst 1, 1) := dk_4 (dk_at dksX2_lay_3 5 rfl rfl)
theorem dX2_lay_76 : decode cX2_lay 76 = .ok (.if_icmp .ne 11, 3) := dk_160 0 11 (dk_at dksX2_lay_3 6 rfl rfl)
theorem dX2_lay_79 : decode cX2_lay 79 = .ok (.iload_n 3, 1) := dk_29 (dk_at dksX2_lay_3 9 rfl rfl)
theorem dX2_lay_80 : decode cX2_lay 80 = .ok (.ldc_w 409, 3) := dk_19 1 153 (dk_at dksX2_lay_3 10 rfl rfl)
theorem dX2_lay_83 : decode cX2_lay 83 = .ok (.iand, 1) := dk_126 (dk_at dksX2_lay_3 13 rfl rfl)
theorem dX2_lay_84 : decode cX2_lay 84 = .ok (.goto 4, 3) := dk_167 0 4 (dk_at dksX2_lay_3 14 rfl rfl)
theorem dX2_lay_87 : decode cX2_lay 87 = .ok (.iload_n 3, 1) := dk_29 (dk_at dksX2_lay_3 17 rfl rfl)
theorem dX2_lay_88 : decode cX2_lay 88 = .ok (.iastore, 1) := dk_79 (dk_at dksX2_lay_3 18 rfl rfl)
theorem dX2_lay_89 : decode cX2_lay 89 = .ok (.iconst 1, 1) := dk_4 (dk_at dksX2_lay_3 19 rfl rfl)
theorem dX2_lay_90 : decode cX2_lay 90 = .ok (.ireturn, 1) := dk_172 (dk_at dksX2_lay_3 20 rfl rfl)
abbrev cX2_run : ByteArray := prog_21_method_88_code
def yX2_run : MethodName := ⟨RX2, "run", "(IIII)I"⟩
def dkwX2_run_7 : List UInt8 := [4, 96, 79, 132, 5, 1, 167, 255, 117, 21, 5, 172]
abbrev dktX2_run_7 : List UInt8 := dkwX2_run_7 ++ []
def dkwX2_run_6 : List UInt8 := [180, 0, 126, 16, 40, 27, 104, 22, 6, 136, 96, 46, 17, 0, 255, 126, 79, 42, 180, 0, 35, 3, 92, 46]
abbrev dktX2_run_6 : List UInt8 := dkwX2_run_6 ++ dktX2_run_7
def dkwX2_run_5 : List UInt8 := [181, 1, 154, 42, 180, 1, 154, 154, 0, 46, 42, 180, 0, 35, 4, 42, 180, 0, 35, 3, 46, 96, 42]
abbrev dktX2_run_5 : List UInt8 := dkwX2_run_5 ++ dktX2_run_6
def dkwX2_run_4 : List UInt8 := [22, 6, 9, 42, 180, 0, 123, 27, 46, 4, 100, 133, 184, 0, 131, 153, 0, 7, 3, 167, 0, 4, 6]
abbrev dktX2_run_4 : List UInt8 := dkwX2_run_4 ++ dktX2_run_5
def dkwX2_run_3 : List UInt8 := [46, 16, 252, 160, 0, 7, 4, 167, 0, 40, 42, 180, 0, 120, 27, 46, 28, 159, 0, 7, 5, 167, 0, 26]
abbrev dktX2_run_3 : List UInt8 := dkwX2_run_3 ++ dktX2_run_4
def dkwX2_run_2 : List UInt8 := [180, 0, 35, 3, 46, 16, 48, 162, 0, 120, 29, 133, 21, 5, 133, 97, 55, 6, 42, 42, 180, 0, 120, 27]
abbrev dktX2_run_2 : List UInt8 := dkwX2_run_2 ++ dktX2_run_3
def dkwX2_run_1 : List UInt8 := [54, 5, 42, 3, 181, 1, 154, 21, 5, 21, 4, 162, 0, 138, 42, 180, 1, 154, 154, 0, 131, 42]
abbrev dktX2_run_1 : List UInt8 := dkwX2_run_1 ++ dktX2_run_2
def dkwX2_run_0 : List UInt8 := [27, 28, 184, 1, 150, 153, 0, 16, 21, 4, 133, 9, 20, 1, 143, 184, 0, 131, 154, 0, 5, 2, 172, 3]
abbrev dktX2_run_0 : List UInt8 := dkwX2_run_0 ++ dktX2_run_1
theorem dksX2_run_0 : cX2_run.data.toList.drop 0 = dktX2_run_0 := by decide +kernel
theorem dksX2_run_1 : cX2_run.data.toList.drop 24 = dktX2_run_1 := dk_seg dksX2_run_0 24 rfl rfl
theorem dksX2_run_2 : cX2_run.data.toList.drop 46 = dktX2_run_2 := dk_seg dksX2_run_1 22 rfl rfl
theorem dksX2_run_3 : cX2_run.data.toList.drop 70 = dktX2_run_3 := dk_seg dksX2_run_2 24 rfl rfl
theorem dksX2_run_4 : cX2_run.data.toList.drop 94 = dktX2_run_4 := dk_seg dksX2_run_3 24 rfl rfl
theorem dksX2_run_5 : cX2_run.data.toList.drop 117 = dktX2_run_5 := dk_seg dksX2_run_4 23 rfl rfl
theorem dksX2_run_6 : cX2_run.data.toList.drop 140 = dktX2_run_6 := dk_seg dksX2_run_5 23 rfl rfl
theorem dksX2_run_7 : cX2_run.data.toList.drop 164 = dktX2_run_7 := dk_seg dksX2_run_6 24 rfl rfl
theorem dX2_run_0 : decode cX2_run 0 = .ok (.iload_n 1, 1) := dk_27 (dk_at dksX2_run_0 0 rfl rfl)
theorem dX2_run_1 : decode cX2_run 1 = .ok (.iload_n 2, 1) := dk_28 (dk_at dksX2_run_0 1 rfl rfl)
theorem dX2_run_2 : decode cX2_run 2 = .ok (.invokestatic 406, 3) := dk_184 1 150 (dk_at dksX2_run_0 2 rfl rfl)
theorem dX2_run_5 : decode cX2_run 5 = .ok (.ifCond .eq 16, 3) := dk_153 0 16 (dk_at dksX2_run_0 5 rfl rfl)
theorem dX2_run_8 : decode cX2_run 8 = .ok (.iload 4, 2) := dk_21 4 (dk_at dksX2_run_0 8 rfl rfl)
theorem dX2_run_10 : decode cX2_run 10 = .ok (.i2l, 1) := dk_133 (dk_at dksX2_run_0 10 rfl rfl)
theorem dX2_run_11 : decode cX2_run 11 = .ok (.lconst 0, 1) := dk_9 (dk_at dksX2_run_0 11 rfl rfl)
theorem dX2_run_12 : decode cX2_run 12 = .ok (.ldc2_w 399, 3) := dk_20 1 143 (dk_at dksX2_run_0 12 rfl rfl)
theorem dX2_run_15 : decode cX2_run 15 = .ok (.invokestatic 131, 3) := dk_184 0 131 (dk_at dksX2_run_0 15 rfl rfl)
theorem dX2_run_18 : decode cX2_run 18 = .ok (.ifCond .ne 5, 3) := dk_154 0 5 (dk_at dksX2_run_0 18 rfl rfl)
theorem dX2_run_21 : decode cX2_run 21 = .ok (.iconst (-1), 1) := dk_2 (dk_at dksX2_run_0 21 rfl rfl)
theorem dX2_run_22 : decode cX2_run 22 = .ok (.ireturn, 1) := dk_172 (dk_at dksX2_run_0 22 rfl rfl)
theorem dX2_run_23 : decode cX2_run 23 = .ok (.iconst 0, 1) := dk_3 (dk_at dksX2_run_0 23 rfl rfl)
theorem dX2_run_24 : decode cX2_run 24 = .ok (.istore 5, 2) := dk_54 5 (dk_at dksX2_run_1 0 rfl rfl)
theorem dX2_run_26 : decode cX2_run 26 = .ok (.aload_n 0, 1) := dk_42 (dk_at dksX2_run_1 2 rfl rfl)
theorem dX2_run_27 : decode cX2_run 27 = .ok (.iconst 0, 1) := dk_3 (dk_at dksX2_run_1 3 rfl rfl)
theorem dX2_run_28 : decode cX2_run 28 = .ok (.putfield 410, 3) := dk_181 1 154 (dk_at dksX2_run_1 4 rfl rfl)
theorem dX2_run_31 : decode cX2_run 31 = .ok (.iload 5, 2) := dk_21 5 (dk_at dksX2_run_1 7 rfl rfl)
theorem dX2_run_33 : decode cX2_run 33 = .ok (.iload 4, 2) := dk_21 4 (dk_at dksX2_run_1 9 rfl rfl)
theorem dX2_run_35 : decode cX2_run 35 = .ok (.if_icmp .ge 138, 3) := dk_162 0 138 (dk_at dksX2_run_1 11 rfl rfl)
theorem dX2_run_38 : decode cX2_run 38 = .ok (.aload_n 0, 1) := dk_42 (dk_at dksX2_run_1 14 rfl rfl)
theorem dX2_run_39 : decode cX2_run 39 = .ok (.getfield 410, 3) := dk_180 1 154 (dk_at dksX2_run_1 15 rfl rfl)
theorem dX2_run_42 : decode cX2_run 42 = .ok (.ifCond .ne 131, 3) := dk_154 0 131 (dk_at dksX2_run_1 18 rfl rfl)
theorem dX2_run_45 : decode cX2_run 45 = .ok (.aload_n 0, 1) := dk_42 (dk_at dksX2_run_1 21 rfl rfl)
theorem dX2_run_46 : decode cX2_run 46 = .ok (.getfield 35, 3) := dk_180 0 35 (dk_at dksX2_run_2 0 rfl rfl)
theorem dX2_run_49 : decode cX2_run 49 = .ok (.iconst 0, 1) := dk_3 (dk_at dksX2_run_2 3 rfl rfl)
theorem dX2_run_50 : decode cX2_run 50 = .ok (.iaload, 1) := dk_46 (dk_at dksX2_run_2 4 rfl rfl)
theorem dX2_run_51 : decode cX2_run 51 = .ok (.bipush 48, 2) := dk_16 48 (dk_at dksX2_run_2 5 rfl rfl)
theorem dX2_run_53 : decode cX2_run 53 = .ok (.if_icmp .ge 120, 3) := dk_162 0 120 (dk_at dksX2_run_2 7 rfl rfl)
theorem dX2_run_56 : decode cX2_run 56 = .ok (.iload_n 3, 1) := dk_29 (dk_at dksX2_run_2 10 rfl rfl)
theorem dX2_run_57 : decode cX2_run 57 = .ok (.i2l, 1) := dk_133 (dk_at dksX2_run_2 11 rfl rfl)
theorem dX2_run_58 : decode cX2_run 58 = .ok (.iload 5, 2) := dk_21 5 (dk_at dksX2_run_2 12 rfl rfl)
theorem dX2_run_60 : decode cX2_run 60 = .ok (.i2l, 1) := dk_133 (dk_at dksX2_run_2 14 rfl rfl)
theorem dX2_run_61 : decode cX2_run 61 = .ok (.ladd, 1) := dk_97 (dk_at dksX2_run_2 15 rfl rfl)
theorem dX2_run_62 : decode cX2_run 62 = .ok (.lstore 6, 2) := dk_55 6 (dk_at dksX2_run_2 16 rfl rfl)
theorem dX2_run_64 : decode cX2_run 64 = .ok (.aload_n 0, 1) := dk_42 (dk_at dksX2_run_2 18 rfl rfl)
theorem dX2_run_65 : decode cX2_run 65 = .ok (.aload_n 0, 1) := dk_42 (dk_at dksX2_run_2 19 rfl rfl)
theorem dX2_run_66 : decode cX2_run 66 = .ok (.getfield 120, 3) := dk_180 0 120 (dk_at dksX2_run_2 20 rfl rfl)
theorem dX2_run_69 : decode cX2_run 69 = .ok (.iload_n 1, 1) := dk_27 (dk_at dksX2_run_2 23 rfl rfl)
theorem dX2_run_70 : decode cX2_run 70 = .ok (.iaload, 1) := dk_46 (dk_at dksX2_run_3 0 rfl rfl)
theorem dX2_run_71 : decode cX2_run 71 = .ok (.bipush (-4), 2) := dk_16 252 (dk_at dksX2_run_3 1 rfl rfl)
theorem dX2_run_73 : decode cX2_run 73 = .ok (.if_icmp .ne 7, 3) := dk_160 0 7 (dk_at dksX2_run_3 3 rfl rfl)
theorem dX2_run_76 : decode cX2_run 76 = .ok (.iconst 1, 1) := dk_4 (dk_at dksX2_run_3 6 rfl rfl)
theorem dX2_run_77 : decode cX2_run 77 = .ok (.goto 40, 3) := dk_167 0 40 (dk_at dksX2_run_3 7 rfl rfl)
theorem dX2_run_80 : decode cX2_run 80 = .ok (.aload_n 0, 1) := dk_42 (dk_at dksX2_run_3 10 rfl rfl)
theorem dX2_run_81 : decode cX2_run 81 = .ok (.getfield 120, 3) := dk_180 0 120 (dk_at dksX2_run_3 11 rfl rfl)
theorem dX2_run_84 : decode cX2_run 84 = .ok (.iload_n 1, 1) := dk_27 (dk_at dksX2_run_3 14 rfl rfl)
theorem dX2_run_85 : decode cX2_run 85 = .ok (.iaload, 1) := dk_46 (dk_at dksX2_run_3 15 rfl rfl)
theorem dX2_run_86 : decode cX2_run 86 = .ok (.iload_n 2, 1) := dk_28 (dk_at dksX2_run_3 16 rfl rfl)
theorem dX2_run_87 : decode cX2_run 87 = .ok (.if_icmp .eq 7, 3) := dk_159 0 7 (dk_at dksX2_run_3 17 rfl rfl)
theorem dX2_run_90 : decode cX2_run 90 = .ok (.iconst 2, 1) := dk_5 (dk_at dksX2_run_3 20 rfl rfl)
theorem dX2_run_91 : decode cX2_run 91 = .ok (.goto 26, 3) := dk_167 0 26 (dk_at dksX2_run_3 21 rfl rfl)
theorem dX2_run_94 : decode cX2_run 94 = .ok (.lload 6, 2) := dk_22 6 (dk_at dksX2_run_4 0 rfl rfl)
theorem dX2_run_96 : decode cX2_run 96 = .ok (.lconst 0, 1) := dk_9 (dk_at dksX2_run_4 2 rfl rfl)
theorem dX2_run_97 : decode cX2_run 97 = .ok (.aload_n 0, 1) := dk_42 (dk_at dksX2_run_4 3 rfl rfl)
theorem dX2_run_98 : decode cX2_run 98 = .ok (.getfield 123, 3) := dk_180 0 123 (dk_at dksX2_run_4 4 rfl rfl)
theorem dX2_run_101 : decode cX2_run 101 = .ok (.iload_n 1, 1) := dk_27 (dk_at dksX2_run_4 7 rfl rfl)
theorem dX2_run_102 : decode cX2_run 102 = .ok (.iaload, 1) := dk_46 (dk_at dksX2_run_4 8 rfl rfl)
theorem dX2_run_103 : decode cX2_run 103 = .ok (.iconst 1, 1) := dk_4 (dk_at dksX2_run_4 9 rfl rfl)
theorem dX2_run_104 : decode cX2_run 104 = .ok (.isub, 1) := dk_100 (dk_at dksX2_run_4 10 rfl rfl)
theorem dX2_run_105 : decode cX2_run 105 = .ok (.i2l, 1) := dk_133 (dk_at dksX2_run_4 11 rfl rfl)
theorem dX2_run_106 : decode cX2_run 106 = .ok (.invokestatic 131, 3) := dk_184 0 131 (dk_at dksX2_run_4 12 rfl rfl)
theorem dX2_run_109 : decode cX2_run 109 = .ok (.ifCond .eq 7, 3) := dk_153 0 7 (dk_at dksX2_run_4 15 rfl rfl)
theorem dX2_run_112 : decode cX2_run 112 = .ok (.iconst 0, 1) := dk_3 (dk_at dksX2_run_4 18 rfl rfl)
theorem dX2_run_113 : decode cX2_run 113 = .ok (.goto 4, 3) := dk_167 0 4 (dk_at dksX2_run_4 19 rfl rfl)
theorem dX2_run_116 : decode cX2_run 116 = .ok (.iconst 3, 1) := dk_6 (dk_at dksX2_run_4 22 rfl rfl)
theorem dX2_run_117 : decode cX2_run 117 = .ok (.putfield 410, 3) := dk_181 1 154 (dk_at dksX2_run_5 0 rfl rfl)
theorem dX2_run_120 : decode cX2_run 120 = .ok (.aload_n 0, 1) := dk_42 (dk_at dksX2_run_5 3 rfl rfl)
theorem dX2_run_121 : decode cX2_run 121 = .ok (.getfield 410, 3) := dk_180 1 154 (dk_at dksX2_run_5 4 rfl rfl)
theorem dX2_run_124 : decode cX2_run 124 = .ok (.ifCond .ne 46, 3) := dk_154 0 46 (dk_at dksX2_run_5 7 rfl rfl)
theorem dX2_run_127 : decode cX2_run 127 = .ok (.aload_n 0, 1) := dk_42 (dk_at dksX2_run_5 10 rfl rfl)
theorem dX2_run_128 : decode cX2_run 128 = .ok (.getfield 35, 3) := dk_180 0 35 (dk_at dksX2_run_5 11 rfl rfl)
theorem dX2_run_131 : decode cX2_run 131 = .ok (.iconst 1, 1) := dk_4 (dk_at dksX2_run_5 14 rfl rfl)
theorem dX2_run_132 : decode cX2_run 132 = .ok (.aload_n 0, 1) := dk_42 (dk_at dksX2_run_5 15 rfl rfl)
theorem dX2_run_133 : decode cX2_run 133 = .ok (.getfield 35, 3) := dk_180 0 35 (dk_at dksX2_run_5 16 rfl rfl)
theorem dX2_run_136 : decode cX2_run 136 = .ok (.iconst 0, 1) := dk_3 (dk_at dksX2_run_5 19 rfl rfl)
theorem dX2_run_137 : decode cX2_run 137 = .ok (.iaload, 1) := dk_46 (dk_at dksX2_run_5 20 rfl rfl)
theorem dX2_run_138 : decode cX2_run 138 = .ok (.iadd, 1) := dk_96 (dk_at dksX2_run_5 21 rfl rfl)
theorem dX2_run_139 : decode cX2_run 139 = .ok (.aload_n 0, 1) := dk_42 (dk_at dksX2_run_5 22 rfl rfl)
theorem dX2_run_140 : decode cX2_run 140 = .ok (.getfield 126, 3) := dk_180 0 126 (dk_at dksX2_run_6 0 rfl rfl)
theorem dX2_run_143 : decode cX2_run 143 = .ok (.bipush 40, 2) := dk_16 40 (dk_at dksX2_run_6 3 rfl rfl)
theorem dX2_run_145 : decode cX2_run 145 = .ok (.iload_n 1, 1) := dk_27 (dk_at dksX2_run_6 5 rfl rfl)
theorem dX2_run_146 : decode cX2_run 146 = .ok (.imul, 1) := dk_104 (dk_at dksX2_run_6 6 rfl rfl)
theorem dX2_run_147 : decode cX2_run 147 = .ok (.lload 6, 2) := dk_22 6 (dk_at dksX2_run_6 7 rfl rfl)
theorem dX2_run_149 : decode cX2_run 149 = .ok (.l2i, 1) := dk_136 (dk_at dksX2_run_6 9 rfl rfl)
theorem dX2_run_150 : decode cX2_run 150 = .ok (.iadd, 1) := dk_96 (dk_at dksX2_run_6 10 rfl rfl)
theorem dX2_run_151 : decode cX2_run 151 = .ok (.iaload, 1) := dk_46 (dk_at dksX2_run_6 11 rfl rfl)
theorem dX2_run_152 : decode cX2_run 152 = .ok (.sipush 255, 3) := dk_17 0 255 (dk_at dksX2_run_6 12 rfl rfl)
theorem dX2_run_155 : decode cX2_run 155 = .ok (.iand, 1) := dk_126 (dk_at dksX2_run_6 15 rfl rfl)
theorem dX2_run_156 : decode cX2_run 156 = .ok (.iastore, 1) := dk_79 (dk_at dksX2_run_6 16 rfl rfl)
theorem dX2_run_157 : decode cX2_run 157 = .ok (.aload_n 0, 1) := dk_42 (dk_at dksX2_run_6 17 rfl rfl)
theorem dX2_run_158 : decode cX2_run 158 = .ok (.getfield 35, 3) := dk_180 0 35 (dk_at dksX2_run_6 18 rfl rfl)
theorem dX2_run_161 : decode cX2_run 161 = .ok (.iconst 0, 1) := dk_3 (dk_at dksX2_run_6 21 rfl rfl)
theorem dX2_run_162 : decode cX2_run 162 = .ok (.dup2, 1) := dk_92 (dk_at dksX2_run_6 22 rfl rfl)
theorem dX2_run_163 : decode cX2_run 163 = .ok (.iaload, 1) := dk_46 (dk_at dksX2_run_6 23 rfl rfl)
theorem dX2_run_164 : decode cX2_run 164 = .ok (.iconst 1, 1) := dk_4 (dk_at dksX2_run_7 0 rfl rfl)
theorem dX2_run_165 : decode cX2_run 165 = .ok (.iadd, 1) := dk_96 (dk_at dksX2_run_7 1 rfl rfl)
theorem dX2_run_166 : decode cX2_run 166 = .ok (.iastore, 1) := dk_79 (dk_at dksX2_run_7 2 rfl rfl)
theorem dX2_run_167 : decode cX2_run 167 = .ok (.iinc 5 1, 3) := dk_132 5 1 (dk_at dksX2_run_7 3 rfl rfl)
theorem dX2_run_170 : decode cX2_run 170 = .ok (.goto (-139), 3) := dk_167 255 117 (dk_at dksX2_run_7 6 rfl rfl)
theorem dX2_run_173 : decode cX2_run 173 = .ok (.iload 5, 2) := dk_21 5 (dk_at dksX2_run_7 9 rfl rfl)
theorem dX2_run_175 : decode cX2_run 175 = .ok (.ireturn, 1) := dk_172 (dk_at dksX2_run_7 11 rfl rfl)
abbrev cX2_torn : ByteArray := prog_21_method_89_code
def yX2_torn : MethodName := ⟨RX2, "torn", "()I"⟩
theorem dX2_torn_0 : decode cX2_torn 0 = .ok (.aload_n 0, 1) := by decide +kernel
theorem dX2_torn_1 : decode cX2_torn 1 = .ok (.getfield 410, 3) := by decide +kernel
theorem dX2_torn_4 : decode cX2_torn 4 = .ok (.ireturn, 1) := by decide +kernel
abbrev cX2_count : ByteArray := prog_21_method_90_code
def yX2_count : MethodName := ⟨RX2, "count", "(I)I"⟩
def dkwX2_count_4 : List UInt8 := [2, 172]
abbrev dktX2_count_4 : List UInt8 := dkwX2_count_4 ++ []
def dkwX2_count_3 : List UInt8 := [172, 42, 180, 0, 120, 3, 46, 16, 252, 160, 0, 8, 16, 252, 167, 0, 9, 42, 180, 0, 123, 3, 46, 172]
abbrev dktX2_count_3 : List UInt8 := dkwX2_count_3 ++ dktX2_count_4
def dkwX2_count_2 : List UInt8 := [42, 180, 0, 41, 3, 51, 184, 0, 194, 42, 180, 0, 41, 4, 51, 184, 0, 194, 96, 172, 42, 180, 0, 135]
abbrev dktX2_count_2 : List UInt8 := dkwX2_count_2 ++ dktX2_count_3
def dkwX2_count_1 : List UInt8 := [170, 0, 0, 0, 0, 0, 75, 0, 0, 0, 0, 0, 0, 0, 2, 0, 0, 0, 27, 0, 0, 0, 47, 0, 0, 0, 52]
abbrev dktX2_count_1 : List UInt8 := dkwX2_count_1 ++ dktX2_count_2
def dkwX2_count_0 : List UInt8 := [27]
abbrev dktX2_count_0 : List UInt8 := dkwX2_count_0 ++ dktX2_count_1
theorem dksX2_count_0 : cX2_count.data.toList.drop 0 = dktX2_count_0 := by decide +kernel
theorem dksX2_count_1 : cX2_count.data.toList.drop 1 = dktX2_count_1 := dk_seg dksX2_count_0 1 rfl rfl
theorem dksX2_count_2 : cX2_count.data.toList.drop 28 = dktX2_count_2 := dk_seg dksX2_count_1 27 rfl rfl
theorem dksX2_count_3 : cX2_count.data.toList.drop 52 = dktX2_count_3 := dk_seg dksX2_count_2 24 rfl rfl
theorem dksX2_count_4 : cX2_count.data.toList.drop 76 = dktX2_count_4 := dk_seg dksX2_count_3 24 rfl rfl
theorem dX2_count_0 : decode cX2_count 0 = .ok (.iload_n 1, 1) := dk_27 (dk_at dksX2_count_0 0 rfl rfl)
theorem dX2_count_1 : decode cX2_count 1 = .ok (.tableswitch 75 0 2 #[27, 47, 52], 27) := by decide +kernel
theorem dX2_count_28 : decode cX2_count 28 = .ok (.aload_n 0, 1) := dk_42 (dk_at dksX2_count_2 0 rfl rfl)
theorem dX2_count_29 : decode cX2_count 29 = .ok (.getfield 41, 3) := dk_180 0 41 (dk_at dksX2_count_2 1 rfl rfl)
theorem dX2_count_32 : decode cX2_count 32 = .ok (.iconst 0, 1) := dk_3 (dk_at dksX2_count_2 4 rfl rfl)
theorem dX2_count_33 : decode cX2_count 33 = .ok (.baload, 1) := dk_51 (dk_at dksX2_count_2 5 rfl rfl)
theorem dX2_count_34 : decode cX2_count 34 = .ok (.invokestatic 194, 3) := dk_184 0 194 (dk_at dksX2_count_2 6 rfl rfl)
theorem dX2_count_37 : decode cX2_count 37 = .ok (.aload_n 0, 1) := dk_42 (dk_at dksX2_count_2 9 rfl rfl)
theorem dX2_count_38 : decode cX2_count 38 = .ok (.getfield 41, 3) := dk_180 0 41 (dk_at dksX2_count_2 10 rfl rfl)
theorem dX2_count_41 : decode cX2_count 41 = .ok (.iconst 1, 1) := dk_4 (dk_at dksX2_count_2 13 rfl rfl)
theorem dX2_count_42 : decode cX2_count 42 = .ok (.baload, 1) := dk_51 (dk_at dksX2_count_2 14 rfl rfl)
theorem dX2_count_43 : decode cX2_count 43 = .ok (.invokestatic 194, 3) := dk_184 0 194 (dk_at dksX2_count_2 15 rfl rfl)
theorem dX2_count_46 : decode cX2_count 46 = .ok (.iadd, 1) := dk_96 (dk_at dksX2_count_2 18 rfl rfl)
theorem dX2_count_47 : decode cX2_count 47 = .ok (.ireturn, 1) := dk_172 (dk_at dksX2_count_2 19 rfl rfl)
theorem dX2_count_48 : decode cX2_count 48 = .ok (.aload_n 0, 1) := dk_42 (dk_at dksX2_count_2 20 rfl rfl)
theorem dX2_count_49 : decode cX2_count 49 = .ok (.getfield 135, 3) := dk_180 0 135 (dk_at dksX2_count_2 21 rfl rfl)
theorem dX2_count_52 : decode cX2_count 52 = .ok (.ireturn, 1) := dk_172 (dk_at dksX2_count_3 0 rfl rfl)
theorem dX2_count_53 : decode cX2_count 53 = .ok (.aload_n 0, 1) := dk_42 (dk_at dksX2_count_3 1 rfl rfl)
theorem dX2_count_54 : decode cX2_count 54 = .ok (.getfield 120, 3) := dk_180 0 120 (dk_at dksX2_count_3 2 rfl rfl)
theorem dX2_count_57 : decode cX2_count 57 = .ok (.iconst 0, 1) := dk_3 (dk_at dksX2_count_3 5 rfl rfl)
theorem dX2_count_58 : decode cX2_count 58 = .ok (.iaload, 1) := dk_46 (dk_at dksX2_count_3 6 rfl rfl)
theorem dX2_count_59 : decode cX2_count 59 = .ok (.bipush (-4), 2) := dk_16 252 (dk_at dksX2_count_3 7 rfl rfl)
theorem dX2_count_61 : decode cX2_count 61 = .ok (.if_icmp .ne 8, 3) := dk_160 0 8 (dk_at dksX2_count_3 9 rfl rfl)
theorem dX2_count_64 : decode cX2_count 64 = .ok (.bipush (-4), 2) := dk_16 252 (dk_at dksX2_count_3 12 rfl rfl)
theorem dX2_count_66 : decode cX2_count 66 = .ok (.goto 9, 3) := dk_167 0 9 (dk_at dksX2_count_3 14 rfl rfl)
theorem dX2_count_69 : decode cX2_count 69 = .ok (.aload_n 0, 1) := dk_42 (dk_at dksX2_count_3 17 rfl rfl)
theorem dX2_count_70 : decode cX2_count 70 = .ok (.getfield 123, 3) := dk_180 0 123 (dk_at dksX2_count_3 18 rfl rfl)
theorem dX2_count_73 : decode cX2_count 73 = .ok (.iconst 0, 1) := dk_3 (dk_at dksX2_count_3 21 rfl rfl)
theorem dX2_count_74 : decode cX2_count 74 = .ok (.iaload, 1) := dk_46 (dk_at dksX2_count_3 22 rfl rfl)
theorem dX2_count_75 : decode cX2_count 75 = .ok (.ireturn, 1) := dk_172 (dk_at dksX2_count_3 23 rfl rfl)
theorem dX2_count_76 : decode cX2_count 76 = .ok (.iconst (-1), 1) := dk_2 (dk_at dksX2_count_4 0 rfl rfl)
theorem dX2_count_77 : decode cX2_count 77 = .ok (.ireturn, 1) := dk_172 (dk_at dksX2_count_4 1 rfl rfl)
theorem q96 : (Jvm.Cond.initialized "PromiseTriesModel") ∈ lw_all := lw_g (lw_at lw_m1 3 rfl) rfl
theorem q1079 : (Jvm.Cond.instantiable "PromiseTriesModel" (52 : Nat)) ∈ lw_all := lw_g (lw_at lw_m5 26 rfl) rfl
theorem q1081 : (Jvm.Cond.instanceMethod ({ cls := "PromiseTriesModel", name := "<init>", desc := "()V" } : Jvm.MethodName)) ∈ lw_all := lw_g (lw_at lw_m5 28 rfl) rfl
theorem q1082 : (Jvm.Cond.code ({ cls := "PromiseTriesModel", name := "<init>", desc := "()V" } : Jvm.MethodName) prog_21_method_1_code (2 : Nat) (Option.none : Option Jvm.ClassFile.FieldType)) ∈ lw_all := lw_g (lw_at lw_m5 29 rfl) rfl
theorem q1083 : (Jvm.Cond.methodLink "PromiseTriesModel" (1 : Nat) ({ cls := "java/lang/Object", name := "<init>", desc := "()V" } : Jvm.MethodName)) ∈ lw_all := lw_g (lw_at lw_m5 30 rfl) rfl
theorem q1084 : (Jvm.Cond.constantLong "PromiseTriesModel" (66 : Nat) (-6148914691236517206 : Int64)) ∈ lw_all := lw_g (lw_at lw_m5 31 rfl) rfl
theorem q1085 : (Jvm.Cond.constantLong "PromiseTriesModel" (68 : Nat) (-3689348814741910324 : Int64)) ∈ lw_all := lw_g (lw_at lw_m5 32 rfl) rfl
theorem q1086 : (Jvm.Cond.constantLong "PromiseTriesModel" (70 : Nat) (-1085102592571150096 : Int64)) ∈ lw_all := lw_g (lw_at lw_m5 33 rfl) rfl
theorem q1087 : (Jvm.Cond.constantLong "PromiseTriesModel" (72 : Nat) (-71777214294589696 : Int64)) ∈ lw_all := lw_g (lw_at lw_m5 34 rfl) rfl
theorem q1088 : (Jvm.Cond.constantLong "PromiseTriesModel" (74 : Nat) (-281470681808896 : Int64)) ∈ lw_all := lw_g (lw_at lw_m5 35 rfl) rfl
theorem q1089 : (Jvm.Cond.constantLong "PromiseTriesModel" (76 : Nat) (-4294967296 : Int64)) ∈ lw_all := lw_g (lw_at lw_m5 36 rfl) rfl
theorem q1090 : (Jvm.Cond.fieldLink "PromiseTriesModel" (7 : Nat) "PromiseTriesModel" "sides" "[I") ∈ lw_all := lw_g (lw_at lw_m5 37 rfl) rfl
theorem q1091 : (Jvm.Cond.fieldLink "PromiseTriesModel" (13 : Nat) "PromiseTriesModel" "draftSides" "[I") ∈ lw_all := lw_g (lw_at lw_m5 38 rfl) rfl
theorem q1092 : (Jvm.Cond.fieldLink "PromiseTriesModel" (16 : Nat) "PromiseTriesModel" "bits" "[J") ∈ lw_all := lw_g (lw_at lw_m5 39 rfl) rfl
theorem q1093 : (Jvm.Cond.fieldLink "PromiseTriesModel" (20 : Nat) "PromiseTriesModel" "draftBits" "[J") ∈ lw_all := lw_g (lw_at lw_m5 40 rfl) rfl
theorem q1094 : (Jvm.Cond.fieldLink "PromiseTriesModel" (23 : Nat) "PromiseTriesModel" "heads" "[I") ∈ lw_all := lw_g (lw_at lw_m5 41 rfl) rfl
theorem q1095 : (Jvm.Cond.fieldLink "PromiseTriesModel" (26 : Nat) "PromiseTriesModel" "draftHeads" "[I") ∈ lw_all := lw_g (lw_at lw_m5 42 rfl) rfl
theorem q1096 : (Jvm.Cond.fieldLink "PromiseTriesModel" (29 : Nat) "PromiseTriesModel" "offs" "[J") ∈ lw_all := lw_g (lw_at lw_m5 43 rfl) rfl
theorem q1097 : (Jvm.Cond.fieldLink "PromiseTriesModel" (32 : Nat) "PromiseTriesModel" "draftOffs" "[J") ∈ lw_all := lw_g (lw_at lw_m5 44 rfl) rfl
theorem q1098 : (Jvm.Cond.fieldLink "PromiseTriesModel" (295 : Nat) "PromiseTriesModel" "promises" "I") ∈ lw_all := lw_g (lw_at lw_m5 45 rfl) rfl
theorem q1099 : (Jvm.Cond.fieldLink "PromiseTriesModel" (35 : Nat) "PromiseTriesModel" "trace" "[I") ∈ lw_all := lw_g (lw_at lw_m5 46 rfl) rfl
theorem q1100 : (Jvm.Cond.fieldLink "PromiseTriesModel" (38 : Nat) "PromiseTriesModel" "kept" "[I") ∈ lw_all := lw_g (lw_at lw_m5 47 rfl) rfl
theorem q1101 : (Jvm.Cond.fieldLink "PromiseTriesModel" (41 : Nat) "PromiseTriesModel" "isKept" "[Z") ∈ lw_all := lw_g (lw_at lw_m5 48 rfl) rfl
theorem q1102 : (Jvm.Cond.fieldLink "PromiseTriesModel" (45 : Nat) "PromiseTriesModel" "tape" "[I") ∈ lw_all := lw_g (lw_at lw_m5 49 rfl) rfl
theorem q1103 : (Jvm.Cond.fieldLink "PromiseTriesModel" (135 : Nat) "PromiseTriesModel" "taped" "I") ∈ lw_all := lw_g (lw_at lw_m5 50 rfl) rfl
theorem q1104 : (Jvm.Cond.fieldLink "PromiseTriesModel" (148 : Nat) "PromiseTriesModel" "pos" "I") ∈ lw_all := lw_g (lw_at lw_m5 51 rfl) rfl
theorem q1105 : (Jvm.Cond.fieldLink "PromiseTriesModel" (142 : Nat) "PromiseTriesModel" "begun" "I") ∈ lw_all := lw_g (lw_at lw_m5 52 rfl) rfl
theorem q1106 : (Jvm.Cond.fieldLink "PromiseTriesModel" (155 : Nat) "PromiseTriesModel" "sort" "I") ∈ lw_all := lw_g (lw_at lw_m5 53 rfl) rfl
theorem q1107 : (Jvm.Cond.fieldLink "PromiseTriesModel" (162 : Nat) "PromiseTriesModel" "figure" "I") ∈ lw_all := lw_g (lw_at lw_m5 54 rfl) rfl
theorem q1108 : (Jvm.Cond.fieldLink "PromiseTriesModel" (139 : Nat) "PromiseTriesModel" "fault" "I") ∈ lw_all := lw_g (lw_at lw_m5 55 rfl) rfl
theorem q1109 : (Jvm.Cond.fieldLink "PromiseTriesModel" (145 : Nat) "PromiseTriesModel" "wrongAt" "I") ∈ lw_all := lw_g (lw_at lw_m5 56 rfl) rfl
theorem q1110 : (Jvm.Cond.fieldLink "PromiseTriesModel" (180 : Nat) "PromiseTriesModel" "open" "I") ∈ lw_all := lw_g (lw_at lw_m5 57 rfl) rfl
theorem q1111 : (Jvm.Cond.fieldLink "PromiseTriesModel" (48 : Nat) "PromiseTriesModel" "ors" "[J") ∈ lw_all := lw_g (lw_at lw_m5 58 rfl) rfl
theorem q1112 : (Jvm.Cond.fieldLink "PromiseTriesModel" (51 : Nat) "PromiseTriesModel" "ands" "[J") ∈ lw_all := lw_g (lw_at lw_m5 59 rfl) rfl
theorem q1113 : (Jvm.Cond.fieldLink "PromiseTriesModel" (54 : Nat) "PromiseTriesModel" "hasOr" "[Z") ∈ lw_all := lw_g (lw_at lw_m5 60 rfl) rfl
theorem q1114 : (Jvm.Cond.fieldLink "PromiseTriesModel" (57 : Nat) "PromiseTriesModel" "hasAnd" "[Z") ∈ lw_all := lw_g (lw_at lw_m5 61 rfl) rfl
theorem q1115 : (Jvm.Cond.fieldLink "PromiseTriesModel" (60 : Nat) "PromiseTriesModel" "isNot" "[Z") ∈ lw_all := lw_g (lw_at lw_m5 62 rfl) rfl
theorem q1116 : (Jvm.Cond.fieldLink "PromiseTriesModel" (63 : Nat) "PromiseTriesModel" "now" "[J") ∈ lw_all := lw_g (lw_at lw_m5 63 rfl) rfl
theorem q1117 : (Jvm.Cond.fieldLink "PromiseTriesModel" (185 : Nat) "PromiseTriesModel" "deep" "I") ∈ lw_all := lw_g (lw_at lw_m5 64 rfl) rfl
theorem q1118 : (Jvm.Cond.fieldLink "PromiseTriesModel" (78 : Nat) "PromiseTriesModel" "patterns" "[J") ∈ lw_all := lw_g (lw_at lw_m5 65 rfl) rfl
theorem q1119 : (Jvm.Cond.fieldLink "PromiseTriesModel" (81 : Nat) "PromiseTriesModel" "begins" "[I") ∈ lw_all := lw_g (lw_at lw_m5 66 rfl) rfl
theorem q1120 : (Jvm.Cond.fieldLink "PromiseTriesModel" (84 : Nat) "PromiseTriesModel" "firsts" "[J") ∈ lw_all := lw_g (lw_at lw_m5 67 rfl) rfl
theorem q1121 : (Jvm.Cond.fieldLink "PromiseTriesModel" (87 : Nat) "PromiseTriesModel" "lasts" "[J") ∈ lw_all := lw_g (lw_at lw_m5 68 rfl) rfl
theorem q1122 : (Jvm.Cond.fieldLink "PromiseTriesModel" (90 : Nat) "PromiseTriesModel" "areNone" "[Z") ∈ lw_all := lw_g (lw_at lw_m5 69 rfl) rfl
theorem q1123 : (Jvm.Cond.fieldLink "PromiseTriesModel" (93 : Nat) "PromiseTriesModel" "longs" "[I") ∈ lw_all := lw_g (lw_at lw_m5 70 rfl) rfl
theorem q1124 : (Jvm.Cond.fieldLink "PromiseTriesModel" (96 : Nat) "PromiseTriesModel" "fews" "[I") ∈ lw_all := lw_g (lw_at lw_m5 71 rfl) rfl
theorem q1125 : (Jvm.Cond.fieldLink "PromiseTriesModel" (99 : Nat) "PromiseTriesModel" "mosts" "[I") ∈ lw_all := lw_g (lw_at lw_m5 72 rfl) rfl
theorem q1126 : (Jvm.Cond.fieldLink "PromiseTriesModel" (102 : Nat) "PromiseTriesModel" "isThere" "[Z") ∈ lw_all := lw_g (lw_at lw_m5 73 rfl) rfl
theorem q1127 : (Jvm.Cond.fieldLink "PromiseTriesModel" (244 : Nat) "PromiseTriesModel" "depth" "I") ∈ lw_all := lw_g (lw_at lw_m5 74 rfl) rfl
theorem q1128 : (Jvm.Cond.fieldLink "PromiseTriesModel" (214 : Nat) "PromiseTriesModel" "side" "I") ∈ lw_all := lw_g (lw_at lw_m5 75 rfl) rfl
theorem q1129 : (Jvm.Cond.fieldLink "PromiseTriesModel" (236 : Nat) "PromiseTriesModel" "isOver" "Z") ∈ lw_all := lw_g (lw_at lw_m5 76 rfl) rfl
theorem q1130 : (Jvm.Cond.fieldLink "PromiseTriesModel" (105 : Nat) "PromiseTriesModel" "fulfilling" "[J") ∈ lw_all := lw_g (lw_at lw_m5 77 rfl) rfl
theorem q1131 : (Jvm.Cond.fieldLink "PromiseTriesModel" (108 : Nat) "PromiseTriesModel" "thenNext" "[J") ∈ lw_all := lw_g (lw_at lw_m5 78 rfl) rfl
theorem q1132 : (Jvm.Cond.fieldLink "PromiseTriesModel" (111 : Nat) "PromiseTriesModel" "dutyIs" "[I") ∈ lw_all := lw_g (lw_at lw_m5 79 rfl) rfl
theorem q1133 : (Jvm.Cond.fieldLink "PromiseTriesModel" (114 : Nat) "PromiseTriesModel" "dutyBy" "[I") ∈ lw_all := lw_g (lw_at lw_m5 80 rfl) rfl
theorem q1134 : (Jvm.Cond.fieldLink "PromiseTriesModel" (117 : Nat) "PromiseTriesModel" "isDuty" "[Z") ∈ lw_all := lw_g (lw_at lw_m5 81 rfl) rfl
theorem q1135 : (Jvm.Cond.fieldLink "PromiseTriesModel" (352 : Nat) "PromiseTriesModel" "verdict" "I") ∈ lw_all := lw_g (lw_at lw_m5 82 rfl) rfl
theorem q1136 : (Jvm.Cond.fieldLink "PromiseTriesModel" (355 : Nat) "PromiseTriesModel" "decidedBy" "I") ∈ lw_all := lw_g (lw_at lw_m5 83 rfl) rfl
theorem q1137 : (Jvm.Cond.fieldLink "PromiseTriesModel" (395 : Nat) "PromiseTriesModel" "seeded" "I") ∈ lw_all := lw_g (lw_at lw_m5 84 rfl) rfl
theorem q1138 : (Jvm.Cond.fieldLink "PromiseTriesModel" (120 : Nat) "PromiseTriesModel" "lanes" "[I") ∈ lw_all := lw_g (lw_at lw_m5 85 rfl) rfl
theorem q1139 : (Jvm.Cond.fieldLink "PromiseTriesModel" (123 : Nat) "PromiseTriesModel" "sizes" "[I") ∈ lw_all := lw_g (lw_at lw_m5 86 rfl) rfl
theorem q1140 : (Jvm.Cond.fieldLink "PromiseTriesModel" (126 : Nat) "PromiseTriesModel" "cells" "[I") ∈ lw_all := lw_g (lw_at lw_m5 87 rfl) rfl
theorem q1141 : (Jvm.Cond.fieldLink "PromiseTriesModel" (410 : Nat) "PromiseTriesModel" "torn" "I") ∈ lw_all := lw_g (lw_at lw_m5 88 rfl) rfl
theorem q1142 : (Jvm.Cond.laysFinal "PromiseTriesModel" "PromiseTriesModel" "sides" "[I") ∈ lw_all := lw_g (lw_at lw_m5 89 rfl) rfl
theorem q1143 : (Jvm.Cond.soleField "PromiseTriesModel" "sides") ∈ lw_all := lw_g (lw_at lw_m5 90 rfl) rfl
theorem q1144 : (Jvm.Cond.laysFinal "PromiseTriesModel" "PromiseTriesModel" "draftSides" "[I") ∈ lw_all := lw_g (lw_at lw_m5 91 rfl) rfl
theorem q1145 : (Jvm.Cond.soleField "PromiseTriesModel" "draftSides") ∈ lw_all := lw_g (lw_at lw_m5 92 rfl) rfl
theorem q1146 : (Jvm.Cond.laysFinal "PromiseTriesModel" "PromiseTriesModel" "bits" "[J") ∈ lw_all := lw_g (lw_at lw_m5 93 rfl) rfl
theorem q1147 : (Jvm.Cond.soleField "PromiseTriesModel" "bits") ∈ lw_all := lw_g (lw_at lw_m5 94 rfl) rfl
theorem q1148 : (Jvm.Cond.laysFinal "PromiseTriesModel" "PromiseTriesModel" "draftBits" "[J") ∈ lw_all := lw_g (lw_at lw_m5 95 rfl) rfl
theorem q1149 : (Jvm.Cond.soleField "PromiseTriesModel" "draftBits") ∈ lw_all := lw_g (lw_at lw_m5 96 rfl) rfl
theorem q1150 : (Jvm.Cond.laysFinal "PromiseTriesModel" "PromiseTriesModel" "heads" "[I") ∈ lw_all := lw_g (lw_at lw_m5 97 rfl) rfl
theorem q1151 : (Jvm.Cond.soleField "PromiseTriesModel" "heads") ∈ lw_all := lw_g (lw_at lw_m5 98 rfl) rfl
theorem q1152 : (Jvm.Cond.laysFinal "PromiseTriesModel" "PromiseTriesModel" "draftHeads" "[I") ∈ lw_all := lw_g (lw_at lw_m5 99 rfl) rfl
theorem q1153 : (Jvm.Cond.soleField "PromiseTriesModel" "draftHeads") ∈ lw_all := lw_g (lw_at lw_m5 100 rfl) rfl
theorem q1154 : (Jvm.Cond.laysFinal "PromiseTriesModel" "PromiseTriesModel" "offs" "[J") ∈ lw_all := lw_g (lw_at lw_m5 101 rfl) rfl
theorem q1155 : (Jvm.Cond.soleField "PromiseTriesModel" "offs") ∈ lw_all := lw_g (lw_at lw_m5 102 rfl) rfl
theorem q1156 : (Jvm.Cond.laysFinal "PromiseTriesModel" "PromiseTriesModel" "draftOffs" "[J") ∈ lw_all := lw_g (lw_at lw_m5 103 rfl) rfl
theorem q1157 : (Jvm.Cond.soleField "PromiseTriesModel" "draftOffs") ∈ lw_all := lw_g (lw_at lw_m5 104 rfl) rfl
theorem q1158 : (Jvm.Cond.lays "PromiseTriesModel" "PromiseTriesModel" "promises" "I") ∈ lw_all := lw_g (lw_at lw_m5 105 rfl) rfl
theorem q1159 : (Jvm.Cond.soleField "PromiseTriesModel" "promises") ∈ lw_all := lw_g (lw_at lw_m5 106 rfl) rfl
theorem q1160 : (Jvm.Cond.laysFinal "PromiseTriesModel" "PromiseTriesModel" "trace" "[I") ∈ lw_all := lw_g (lw_at lw_m5 107 rfl) rfl
theorem q1161 : (Jvm.Cond.soleField "PromiseTriesModel" "trace") ∈ lw_all := lw_g (lw_at lw_m5 108 rfl) rfl
theorem q1162 : (Jvm.Cond.laysFinal "PromiseTriesModel" "PromiseTriesModel" "kept" "[I") ∈ lw_all := lw_g (lw_at lw_m5 109 rfl) rfl
theorem q1163 : (Jvm.Cond.soleField "PromiseTriesModel" "kept") ∈ lw_all := lw_g (lw_at lw_m5 110 rfl) rfl
theorem q1164 : (Jvm.Cond.laysFinal "PromiseTriesModel" "PromiseTriesModel" "isKept" "[Z") ∈ lw_all := lw_g (lw_at lw_m5 111 rfl) rfl
theorem q1165 : (Jvm.Cond.soleField "PromiseTriesModel" "isKept") ∈ lw_all := lw_g (lw_at lw_m5 112 rfl) rfl
theorem q1166 : (Jvm.Cond.laysFinal "PromiseTriesModel" "PromiseTriesModel" "tape" "[I") ∈ lw_all := lw_g (lw_at lw_m5 113 rfl) rfl
theorem q1167 : (Jvm.Cond.soleField "PromiseTriesModel" "tape") ∈ lw_all := lw_g (lw_at lw_m5 114 rfl) rfl
theorem q1168 : (Jvm.Cond.lays "PromiseTriesModel" "PromiseTriesModel" "taped" "I") ∈ lw_all := lw_g (lw_at lw_m5 115 rfl) rfl
theorem q1169 : (Jvm.Cond.soleField "PromiseTriesModel" "taped") ∈ lw_all := lw_g (lw_at lw_m5 116 rfl) rfl
theorem q1170 : (Jvm.Cond.lays "PromiseTriesModel" "PromiseTriesModel" "pos" "I") ∈ lw_all := lw_g (lw_at lw_m5 117 rfl) rfl
theorem q1171 : (Jvm.Cond.soleField "PromiseTriesModel" "pos") ∈ lw_all := lw_g (lw_at lw_m5 118 rfl) rfl
theorem q1172 : (Jvm.Cond.lays "PromiseTriesModel" "PromiseTriesModel" "begun" "I") ∈ lw_all := lw_g (lw_at lw_m5 119 rfl) rfl
theorem q1173 : (Jvm.Cond.soleField "PromiseTriesModel" "begun") ∈ lw_all := lw_g (lw_at lw_m5 120 rfl) rfl
theorem q1174 : (Jvm.Cond.lays "PromiseTriesModel" "PromiseTriesModel" "sort" "I") ∈ lw_all := lw_g (lw_at lw_m5 121 rfl) rfl
theorem q1175 : (Jvm.Cond.soleField "PromiseTriesModel" "sort") ∈ lw_all := lw_g (lw_at lw_m5 122 rfl) rfl
theorem q1176 : (Jvm.Cond.lays "PromiseTriesModel" "PromiseTriesModel" "figure" "I") ∈ lw_all := lw_g (lw_at lw_m5 123 rfl) rfl
theorem q1177 : (Jvm.Cond.soleField "PromiseTriesModel" "figure") ∈ lw_all := lw_g (lw_at lw_m5 124 rfl) rfl
theorem q1178 : (Jvm.Cond.lays "PromiseTriesModel" "PromiseTriesModel" "fault" "I") ∈ lw_all := lw_g (lw_at lw_m5 125 rfl) rfl
theorem q1179 : (Jvm.Cond.soleField "PromiseTriesModel" "fault") ∈ lw_all := lw_g (lw_at lw_m5 126 rfl) rfl
theorem q1180 : (Jvm.Cond.lays "PromiseTriesModel" "PromiseTriesModel" "wrongAt" "I") ∈ lw_all := lw_g (lw_at lw_m5 127 rfl) rfl
theorem q1181 : (Jvm.Cond.soleField "PromiseTriesModel" "wrongAt") ∈ lw_all := lw_g (lw_at lw_m5 128 rfl) rfl
theorem q1182 : (Jvm.Cond.lays "PromiseTriesModel" "PromiseTriesModel" "open" "I") ∈ lw_all := lw_g (lw_at lw_m5 129 rfl) rfl
theorem q1183 : (Jvm.Cond.soleField "PromiseTriesModel" "open") ∈ lw_all := lw_g (lw_at lw_m5 130 rfl) rfl
theorem q1184 : (Jvm.Cond.laysFinal "PromiseTriesModel" "PromiseTriesModel" "ors" "[J") ∈ lw_all := lw_g (lw_at lw_m5 131 rfl) rfl
theorem q1185 : (Jvm.Cond.soleField "PromiseTriesModel" "ors") ∈ lw_all := lw_g (lw_at lw_m5 132 rfl) rfl
theorem q1186 : (Jvm.Cond.laysFinal "PromiseTriesModel" "PromiseTriesModel" "ands" "[J") ∈ lw_all := lw_g (lw_at lw_m5 133 rfl) rfl
theorem q1187 : (Jvm.Cond.soleField "PromiseTriesModel" "ands") ∈ lw_all := lw_g (lw_at lw_m5 134 rfl) rfl
theorem q1188 : (Jvm.Cond.laysFinal "PromiseTriesModel" "PromiseTriesModel" "hasOr" "[Z") ∈ lw_all := lw_g (lw_at lw_m5 135 rfl) rfl
theorem q1189 : (Jvm.Cond.soleField "PromiseTriesModel" "hasOr") ∈ lw_all := lw_g (lw_at lw_m5 136 rfl) rfl
theorem q1190 : (Jvm.Cond.laysFinal "PromiseTriesModel" "PromiseTriesModel" "hasAnd" "[Z") ∈ lw_all := lw_g (lw_at lw_m5 137 rfl) rfl
theorem q1191 : (Jvm.Cond.soleField "PromiseTriesModel" "hasAnd") ∈ lw_all := lw_g (lw_at lw_m5 138 rfl) rfl
theorem q1192 : (Jvm.Cond.laysFinal "PromiseTriesModel" "PromiseTriesModel" "isNot" "[Z") ∈ lw_all := lw_g (lw_at lw_m5 139 rfl) rfl
theorem q1193 : (Jvm.Cond.soleField "PromiseTriesModel" "isNot") ∈ lw_all := lw_g (lw_at lw_m5 140 rfl) rfl
theorem q1194 : (Jvm.Cond.laysFinal "PromiseTriesModel" "PromiseTriesModel" "now" "[J") ∈ lw_all := lw_g (lw_at lw_m5 141 rfl) rfl
theorem q1195 : (Jvm.Cond.soleField "PromiseTriesModel" "now") ∈ lw_all := lw_g (lw_at lw_m5 142 rfl) rfl
theorem q1196 : (Jvm.Cond.lays "PromiseTriesModel" "PromiseTriesModel" "deep" "I") ∈ lw_all := lw_g (lw_at lw_m5 143 rfl) rfl
theorem q1197 : (Jvm.Cond.soleField "PromiseTriesModel" "deep") ∈ lw_all := lw_g (lw_at lw_m5 144 rfl) rfl
theorem q1198 : (Jvm.Cond.laysFinal "PromiseTriesModel" "PromiseTriesModel" "patterns" "[J") ∈ lw_all := lw_g (lw_at lw_m5 145 rfl) rfl
theorem q1199 : (Jvm.Cond.soleField "PromiseTriesModel" "patterns") ∈ lw_all := lw_g (lw_at lw_m5 146 rfl) rfl
theorem q1200 : (Jvm.Cond.laysFinal "PromiseTriesModel" "PromiseTriesModel" "begins" "[I") ∈ lw_all := lw_g (lw_at lw_m5 147 rfl) rfl
theorem q1201 : (Jvm.Cond.soleField "PromiseTriesModel" "begins") ∈ lw_all := lw_g (lw_at lw_m5 148 rfl) rfl
theorem q1202 : (Jvm.Cond.laysFinal "PromiseTriesModel" "PromiseTriesModel" "firsts" "[J") ∈ lw_all := lw_g (lw_at lw_m5 149 rfl) rfl
theorem q1203 : (Jvm.Cond.soleField "PromiseTriesModel" "firsts") ∈ lw_all := lw_g (lw_at lw_m5 150 rfl) rfl
theorem q1204 : (Jvm.Cond.laysFinal "PromiseTriesModel" "PromiseTriesModel" "lasts" "[J") ∈ lw_all := lw_g (lw_at lw_m5 151 rfl) rfl
theorem q1205 : (Jvm.Cond.soleField "PromiseTriesModel" "lasts") ∈ lw_all := lw_g (lw_at lw_m5 152 rfl) rfl
theorem q1206 : (Jvm.Cond.laysFinal "PromiseTriesModel" "PromiseTriesModel" "areNone" "[Z") ∈ lw_all := lw_g (lw_at lw_m5 153 rfl) rfl
theorem q1207 : (Jvm.Cond.soleField "PromiseTriesModel" "areNone") ∈ lw_all := lw_g (lw_at lw_m5 154 rfl) rfl
theorem q1208 : (Jvm.Cond.laysFinal "PromiseTriesModel" "PromiseTriesModel" "longs" "[I") ∈ lw_all := lw_g (lw_at lw_m5 155 rfl) rfl
theorem q1209 : (Jvm.Cond.soleField "PromiseTriesModel" "longs") ∈ lw_all := lw_g (lw_at lw_m5 156 rfl) rfl
theorem q1210 : (Jvm.Cond.laysFinal "PromiseTriesModel" "PromiseTriesModel" "fews" "[I") ∈ lw_all := lw_g (lw_at lw_m5 157 rfl) rfl
theorem q1211 : (Jvm.Cond.soleField "PromiseTriesModel" "fews") ∈ lw_all := lw_g (lw_at lw_m5 158 rfl) rfl
theorem q1212 : (Jvm.Cond.laysFinal "PromiseTriesModel" "PromiseTriesModel" "mosts" "[I") ∈ lw_all := lw_g (lw_at lw_m5 159 rfl) rfl
theorem q1213 : (Jvm.Cond.soleField "PromiseTriesModel" "mosts") ∈ lw_all := lw_g (lw_at lw_m5 160 rfl) rfl
theorem q1214 : (Jvm.Cond.laysFinal "PromiseTriesModel" "PromiseTriesModel" "isThere" "[Z") ∈ lw_all := lw_g (lw_at lw_m5 161 rfl) rfl
theorem q1215 : (Jvm.Cond.soleField "PromiseTriesModel" "isThere") ∈ lw_all := lw_g (lw_at lw_m5 162 rfl) rfl
theorem q1216 : (Jvm.Cond.lays "PromiseTriesModel" "PromiseTriesModel" "depth" "I") ∈ lw_all := lw_g (lw_at lw_m5 163 rfl) rfl
theorem q1217 : (Jvm.Cond.soleField "PromiseTriesModel" "depth") ∈ lw_all := lw_g (lw_at lw_m5 164 rfl) rfl
theorem q1218 : (Jvm.Cond.lays "PromiseTriesModel" "PromiseTriesModel" "side" "I") ∈ lw_all := lw_g (lw_at lw_m5 165 rfl) rfl
theorem q1219 : (Jvm.Cond.soleField "PromiseTriesModel" "side") ∈ lw_all := lw_g (lw_at lw_m5 166 rfl) rfl
theorem q1220 : (Jvm.Cond.lays "PromiseTriesModel" "PromiseTriesModel" "isOver" "Z") ∈ lw_all := lw_g (lw_at lw_m5 167 rfl) rfl
theorem q1221 : (Jvm.Cond.soleField "PromiseTriesModel" "isOver") ∈ lw_all := lw_g (lw_at lw_m5 168 rfl) rfl
theorem q1222 : (Jvm.Cond.laysFinal "PromiseTriesModel" "PromiseTriesModel" "fulfilling" "[J") ∈ lw_all := lw_g (lw_at lw_m5 169 rfl) rfl
theorem q1223 : (Jvm.Cond.soleField "PromiseTriesModel" "fulfilling") ∈ lw_all := lw_g (lw_at lw_m5 170 rfl) rfl
theorem q1224 : (Jvm.Cond.laysFinal "PromiseTriesModel" "PromiseTriesModel" "thenNext" "[J") ∈ lw_all := lw_g (lw_at lw_m5 171 rfl) rfl
theorem q1225 : (Jvm.Cond.soleField "PromiseTriesModel" "thenNext") ∈ lw_all := lw_g (lw_at lw_m5 172 rfl) rfl
theorem q1226 : (Jvm.Cond.laysFinal "PromiseTriesModel" "PromiseTriesModel" "dutyIs" "[I") ∈ lw_all := lw_g (lw_at lw_m5 173 rfl) rfl
theorem q1227 : (Jvm.Cond.soleField "PromiseTriesModel" "dutyIs") ∈ lw_all := lw_g (lw_at lw_m5 174 rfl) rfl
theorem q1228 : (Jvm.Cond.laysFinal "PromiseTriesModel" "PromiseTriesModel" "dutyBy" "[I") ∈ lw_all := lw_g (lw_at lw_m5 175 rfl) rfl
theorem q1229 : (Jvm.Cond.soleField "PromiseTriesModel" "dutyBy") ∈ lw_all := lw_g (lw_at lw_m5 176 rfl) rfl
theorem q1230 : (Jvm.Cond.laysFinal "PromiseTriesModel" "PromiseTriesModel" "isDuty" "[Z") ∈ lw_all := lw_g (lw_at lw_m5 177 rfl) rfl
theorem q1231 : (Jvm.Cond.soleField "PromiseTriesModel" "isDuty") ∈ lw_all := lw_g (lw_at lw_m5 178 rfl) rfl
theorem q1232 : (Jvm.Cond.lays "PromiseTriesModel" "PromiseTriesModel" "verdict" "I") ∈ lw_all := lw_g (lw_at lw_m5 179 rfl) rfl
theorem q1233 : (Jvm.Cond.soleField "PromiseTriesModel" "verdict") ∈ lw_all := lw_g (lw_at lw_m5 180 rfl) rfl
theorem q1234 : (Jvm.Cond.lays "PromiseTriesModel" "PromiseTriesModel" "decidedBy" "I") ∈ lw_all := lw_g (lw_at lw_m5 181 rfl) rfl
theorem q1235 : (Jvm.Cond.soleField "PromiseTriesModel" "decidedBy") ∈ lw_all := lw_g (lw_at lw_m5 182 rfl) rfl
theorem q1236 : (Jvm.Cond.lays "PromiseTriesModel" "PromiseTriesModel" "seeded" "I") ∈ lw_all := lw_g (lw_at lw_m5 183 rfl) rfl
theorem q1237 : (Jvm.Cond.soleField "PromiseTriesModel" "seeded") ∈ lw_all := lw_g (lw_at lw_m5 184 rfl) rfl
theorem q1238 : (Jvm.Cond.laysFinal "PromiseTriesModel" "PromiseTriesModel" "lanes" "[I") ∈ lw_all := lw_g (lw_at lw_m5 185 rfl) rfl
theorem q1239 : (Jvm.Cond.soleField "PromiseTriesModel" "lanes") ∈ lw_all := lw_g (lw_at lw_m5 186 rfl) rfl
theorem q1240 : (Jvm.Cond.laysFinal "PromiseTriesModel" "PromiseTriesModel" "sizes" "[I") ∈ lw_all := lw_g (lw_at lw_m5 187 rfl) rfl
theorem q1241 : (Jvm.Cond.soleField "PromiseTriesModel" "sizes") ∈ lw_all := lw_g (lw_at lw_m5 188 rfl) rfl
theorem q1242 : (Jvm.Cond.laysFinal "PromiseTriesModel" "PromiseTriesModel" "cells" "[I") ∈ lw_all := lw_g (lw_at lw_m5 189 rfl) rfl
theorem q1243 : (Jvm.Cond.soleField "PromiseTriesModel" "cells") ∈ lw_all := lw_g (lw_at lw_m5 190 rfl) rfl
theorem q1244 : (Jvm.Cond.lays "PromiseTriesModel" "PromiseTriesModel" "torn" "I") ∈ lw_all := lw_g (lw_at lw_m5 191 rfl) rfl
theorem q1245 : (Jvm.Cond.soleField "PromiseTriesModel" "torn") ∈ lw_all := lw_g (lw_at lw_m5 192 rfl) rfl
theorem q1246 : (Jvm.Cond.superclass "PromiseTriesModel" "java/lang/Object") ∈ lw_all := lw_g (lw_at lw_m5 193 rfl) rfl
theorem q1249 : (Jvm.Cond.instanceMethod ({ cls := "PromiseTriesModel", name := "feed", desc := "(I)I" } : Jvm.MethodName)) ∈ lw_all := lw_g (lw_at lw_m5 196 rfl) rfl
theorem q1250 : (Jvm.Cond.selects "PromiseTriesModel" ({ cls := "PromiseTriesModel", name := "feed", desc := "(I)I" } : Jvm.MethodName) ({ cls := "PromiseTriesModel", name := "feed", desc := "(I)I" } : Jvm.MethodName)) ∈ lw_all := lw_g (lw_at lw_m5 197 rfl) rfl
theorem q1251 : (Jvm.Cond.code ({ cls := "PromiseTriesModel", name := "feed", desc := "(I)I" } : Jvm.MethodName) prog_21_method_7_code (2 : Nat) (Option.some Jvm.ClassFile.FieldType.int)) ∈ lw_all := lw_g (lw_at lw_m5 198 rfl) rfl
theorem q1252 : (Jvm.Cond.constantLong "PromiseTriesModel" (129 : Nat) (127 : Int64)) ∈ lw_all := lw_g (lw_at lw_m5 199 rfl) rfl
theorem q1253 : (Jvm.Cond.methodLink "PromiseTriesModel" (131 : Nat) ({ cls := "PromiseTriesModel", name := "in", desc := "(JJJ)Z" } : Jvm.MethodName)) ∈ lw_all := lw_g (lw_at lw_m5 200 rfl) rfl
theorem q1254 : (Jvm.Cond.static ({ cls := "PromiseTriesModel", name := "in", desc := "(JJJ)Z" } : Jvm.MethodName)) ∈ lw_all := lw_g (lw_at lw_m5 201 rfl) rfl
theorem q1255 : (Jvm.Cond.code ({ cls := "PromiseTriesModel", name := "in", desc := "(JJJ)Z" } : Jvm.MethodName) prog_21_method_3_code (6 : Nat) (Option.some Jvm.ClassFile.FieldType.boolean)) ∈ lw_all := lw_g (lw_at lw_m5 202 rfl) rfl
theorem q1257 : (Jvm.Cond.instanceMethod ({ cls := "PromiseTriesModel", name := "end", desc := "(I)I" } : Jvm.MethodName)) ∈ lw_all := lw_g (lw_at lw_m5 204 rfl) rfl
theorem q1258 : (Jvm.Cond.selects "PromiseTriesModel" ({ cls := "PromiseTriesModel", name := "end", desc := "(I)I" } : Jvm.MethodName) ({ cls := "PromiseTriesModel", name := "end", desc := "(I)I" } : Jvm.MethodName)) ∈ lw_all := lw_g (lw_at lw_m5 205 rfl) rfl
theorem q1259 : (Jvm.Cond.code ({ cls := "PromiseTriesModel", name := "end", desc := "(I)I" } : Jvm.MethodName) prog_21_method_8_code (3 : Nat) (Option.some Jvm.ClassFile.FieldType.int)) ∈ lw_all := lw_g (lw_at lw_m5 206 rfl) rfl
theorem q1261 : (Jvm.Cond.instanceMethod ({ cls := "PromiseTriesModel", name := "text", desc := "()I" } : Jvm.MethodName)) ∈ lw_all := lw_g (lw_at lw_m5 208 rfl) rfl
theorem q1262 : (Jvm.Cond.selects "PromiseTriesModel" ({ cls := "PromiseTriesModel", name := "text", desc := "()I" } : Jvm.MethodName) ({ cls := "PromiseTriesModel", name := "text", desc := "()I" } : Jvm.MethodName)) ∈ lw_all := lw_g (lw_at lw_m5 209 rfl) rfl
theorem q1263 : (Jvm.Cond.code ({ cls := "PromiseTriesModel", name := "text", desc := "()I" } : Jvm.MethodName) prog_21_method_39_code (3 : Nat) (Option.some Jvm.ClassFile.FieldType.int)) ∈ lw_all := lw_g (lw_at lw_m5 210 rfl) rfl
theorem q1264 : (Jvm.Cond.methodLink "PromiseTriesModel" (177 : Nat) ({ cls := "PromiseTriesModel", name := "reads", desc := "()V" } : Jvm.MethodName)) ∈ lw_all := lw_g (lw_at lw_m5 211 rfl) rfl
theorem q1265 : (Jvm.Cond.privateMethod ({ cls := "PromiseTriesModel", name := "reads", desc := "()V" } : Jvm.MethodName)) ∈ lw_tbl := lw_at lw_m5 212 rfl
theorem q1266 : (Jvm.Cond.instanceMethod ({ cls := "PromiseTriesModel", name := "reads", desc := "()V" } : Jvm.MethodName)) ∈ lw_all := lw_g (lw_at lw_m5 213 rfl) rfl
theorem q1267 : (Jvm.Cond.code ({ cls := "PromiseTriesModel", name := "reads", desc := "()V" } : Jvm.MethodName) prog_21_method_12_code (2 : Nat) (Option.none : Option Jvm.ClassFile.FieldType)) ∈ lw_all := lw_g (lw_at lw_m5 214 rfl) rfl
theorem q1268 : (Jvm.Cond.methodLink "PromiseTriesModel" (151 : Nat) ({ cls := "PromiseTriesModel", name := "byteAt", desc := "(I)I" } : Jvm.MethodName)) ∈ lw_all := lw_g (lw_at lw_m5 215 rfl) rfl
theorem q1269 : (Jvm.Cond.privateMethod ({ cls := "PromiseTriesModel", name := "byteAt", desc := "(I)I" } : Jvm.MethodName)) ∈ lw_tbl := lw_at lw_m5 216 rfl
theorem q1270 : (Jvm.Cond.instanceMethod ({ cls := "PromiseTriesModel", name := "byteAt", desc := "(I)I" } : Jvm.MethodName)) ∈ lw_all := lw_g (lw_at lw_m5 217 rfl) rfl
theorem q1271 : (Jvm.Cond.code ({ cls := "PromiseTriesModel", name := "byteAt", desc := "(I)I" } : Jvm.MethodName) prog_21_method_10_code (2 : Nat) (Option.some Jvm.ClassFile.FieldType.int)) ∈ lw_all := lw_g (lw_at lw_m5 218 rfl) rfl
theorem q1272 : (Jvm.Cond.constantLong "PromiseTriesModel" (158 : Nat) (48 : Int64)) ∈ lw_all := lw_g (lw_at lw_m5 219 rfl) rfl
theorem q1273 : (Jvm.Cond.constantLong "PromiseTriesModel" (160 : Nat) (57 : Int64)) ∈ lw_all := lw_g (lw_at lw_m5 220 rfl) rfl
theorem q1274 : (Jvm.Cond.methodLink "PromiseTriesModel" (165 : Nat) ({ cls := "PromiseTriesModel", name := "requires", desc := "(ZI)V" } : Jvm.MethodName)) ∈ lw_all := lw_g (lw_at lw_m5 221 rfl) rfl
theorem q1275 : (Jvm.Cond.privateMethod ({ cls := "PromiseTriesModel", name := "requires", desc := "(ZI)V" } : Jvm.MethodName)) ∈ lw_tbl := lw_at lw_m5 222 rfl
theorem q1276 : (Jvm.Cond.instanceMethod ({ cls := "PromiseTriesModel", name := "requires", desc := "(ZI)V" } : Jvm.MethodName)) ∈ lw_all := lw_g (lw_at lw_m5 223 rfl) rfl
theorem q1277 : (Jvm.Cond.code ({ cls := "PromiseTriesModel", name := "requires", desc := "(ZI)V" } : Jvm.MethodName) prog_21_method_9_code (3 : Nat) (Option.none : Option Jvm.ClassFile.FieldType)) ∈ lw_all := lw_g (lw_at lw_m5 224 rfl) rfl
theorem q1278 : (Jvm.Cond.constantLong "PromiseTriesModel" (169 : Nat) (97 : Int64)) ∈ lw_all := lw_g (lw_at lw_m5 225 rfl) rfl
theorem q1279 : (Jvm.Cond.constantLong "PromiseTriesModel" (171 : Nat) (104 : Int64)) ∈ lw_all := lw_g (lw_at lw_m5 226 rfl) rfl
theorem q1280 : (Jvm.Cond.methodLink "PromiseTriesModel" (173 : Nat) ({ cls := "PromiseTriesModel", name := "isSignByte", desc := "(I)Z" } : Jvm.MethodName)) ∈ lw_all := lw_g (lw_at lw_m5 227 rfl) rfl
theorem q1281 : (Jvm.Cond.static ({ cls := "PromiseTriesModel", name := "isSignByte", desc := "(I)Z" } : Jvm.MethodName)) ∈ lw_all := lw_g (lw_at lw_m5 228 rfl) rfl
theorem q1282 : (Jvm.Cond.code ({ cls := "PromiseTriesModel", name := "isSignByte", desc := "(I)Z" } : Jvm.MethodName) prog_21_method_11_code (1 : Nat) (Option.some Jvm.ClassFile.FieldType.boolean)) ∈ lw_all := lw_g (lw_at lw_m5 229 rfl) rfl
theorem q1283 : (Jvm.Cond.methodLink "PromiseTriesModel" (292 : Nat) ({ cls := "PromiseTriesModel", name := "readPromise", desc := "(I)V" } : Jvm.MethodName)) ∈ lw_all := lw_g (lw_at lw_m5 230 rfl) rfl
theorem q1284 : (Jvm.Cond.privateMethod ({ cls := "PromiseTriesModel", name := "readPromise", desc := "(I)V" } : Jvm.MethodName)) ∈ lw_tbl := lw_at lw_m5 231 rfl
theorem q1285 : (Jvm.Cond.instanceMethod ({ cls := "PromiseTriesModel", name := "readPromise", desc := "(I)V" } : Jvm.MethodName)) ∈ lw_all := lw_g (lw_at lw_m5 232 rfl) rfl
theorem q1286 : (Jvm.Cond.code ({ cls := "PromiseTriesModel", name := "readPromise", desc := "(I)V" } : Jvm.MethodName) prog_21_method_38_code (6 : Nat) (Option.none : Option Jvm.ClassFile.FieldType)) ∈ lw_all := lw_g (lw_at lw_m5 233 rfl) rfl
theorem q1287 : (Jvm.Cond.methodLink "PromiseTriesModel" (285 : Nat) ({ cls := "PromiseTriesModel", name := "isBegin", desc := "()Z" } : Jvm.MethodName)) ∈ lw_all := lw_g (lw_at lw_m5 234 rfl) rfl
theorem q1288 : (Jvm.Cond.privateMethod ({ cls := "PromiseTriesModel", name := "isBegin", desc := "()Z" } : Jvm.MethodName)) ∈ lw_tbl := lw_at lw_m5 235 rfl
theorem q1289 : (Jvm.Cond.instanceMethod ({ cls := "PromiseTriesModel", name := "isBegin", desc := "()Z" } : Jvm.MethodName)) ∈ lw_all := lw_g (lw_at lw_m5 236 rfl) rfl
theorem q1290 : (Jvm.Cond.code ({ cls := "PromiseTriesModel", name := "isBegin", desc := "()Z" } : Jvm.MethodName) prog_21_method_37_code (1 : Nat) (Option.some Jvm.ClassFile.FieldType.boolean)) ∈ lw_all := lw_g (lw_at lw_m5 237 rfl) rfl
theorem q1291 : (Jvm.Cond.methodLink "PromiseTriesModel" (188 : Nat) ({ cls := "PromiseTriesModel", name := "isSign", desc := "(I)Z" } : Jvm.MethodName)) ∈ lw_all := lw_g (lw_at lw_m5 238 rfl) rfl
theorem q1292 : (Jvm.Cond.privateMethod ({ cls := "PromiseTriesModel", name := "isSign", desc := "(I)Z" } : Jvm.MethodName)) ∈ lw_tbl := lw_at lw_m5 239 rfl
theorem q1293 : (Jvm.Cond.instanceMethod ({ cls := "PromiseTriesModel", name := "isSign", desc := "(I)Z" } : Jvm.MethodName)) ∈ lw_all := lw_g (lw_at lw_m6 0 rfl) rfl
theorem q1294 : (Jvm.Cond.code ({ cls := "PromiseTriesModel", name := "isSign", desc := "(I)Z" } : Jvm.MethodName) prog_21_method_13_code (2 : Nat) (Option.some Jvm.ClassFile.FieldType.boolean)) ∈ lw_all := lw_g (lw_at lw_m6 1 rfl) rfl
theorem q1295 : (Jvm.Cond.methodLink "PromiseTriesModel" (289 : Nat) ({ cls := "PromiseTriesModel", name := "readSequence", desc := "(I)V" } : Jvm.MethodName)) ∈ lw_all := lw_g (lw_at lw_m6 2 rfl) rfl
theorem q1296 : (Jvm.Cond.privateMethod ({ cls := "PromiseTriesModel", name := "readSequence", desc := "(I)V" } : Jvm.MethodName)) ∈ lw_tbl := lw_at lw_m6 3 rfl
theorem q1297 : (Jvm.Cond.instanceMethod ({ cls := "PromiseTriesModel", name := "readSequence", desc := "(I)V" } : Jvm.MethodName)) ∈ lw_all := lw_g (lw_at lw_m6 4 rfl) rfl
theorem q1298 : (Jvm.Cond.code ({ cls := "PromiseTriesModel", name := "readSequence", desc := "(I)V" } : Jvm.MethodName) prog_21_method_34_code (3 : Nat) (Option.none : Option Jvm.ClassFile.FieldType)) ∈ lw_all := lw_g (lw_at lw_m6 5 rfl) rfl
theorem q1299 : (Jvm.Cond.methodLink "PromiseTriesModel" (247 : Nat) ({ cls := "PromiseTriesModel", name := "opensSequence", desc := "()V" } : Jvm.MethodName)) ∈ lw_all := lw_g (lw_at lw_m6 6 rfl) rfl
theorem q1300 : (Jvm.Cond.privateMethod ({ cls := "PromiseTriesModel", name := "opensSequence", desc := "()V" } : Jvm.MethodName)) ∈ lw_tbl := lw_at lw_m6 7 rfl
theorem q1301 : (Jvm.Cond.instanceMethod ({ cls := "PromiseTriesModel", name := "opensSequence", desc := "()V" } : Jvm.MethodName)) ∈ lw_all := lw_g (lw_at lw_m6 8 rfl) rfl
theorem q1302 : (Jvm.Cond.code ({ cls := "PromiseTriesModel", name := "opensSequence", desc := "()V" } : Jvm.MethodName) prog_21_method_30_code (1 : Nat) (Option.none : Option Jvm.ClassFile.FieldType)) ∈ lw_all := lw_g (lw_at lw_m6 9 rfl) rfl
theorem q1303 : (Jvm.Cond.methodLink "PromiseTriesModel" (272 : Nat) ({ cls := "PromiseTriesModel", name := "readBegin", desc := "()V" } : Jvm.MethodName)) ∈ lw_all := lw_g (lw_at lw_m6 10 rfl) rfl
theorem q1304 : (Jvm.Cond.privateMethod ({ cls := "PromiseTriesModel", name := "readBegin", desc := "()V" } : Jvm.MethodName)) ∈ lw_tbl := lw_at lw_m6 11 rfl
theorem q1305 : (Jvm.Cond.instanceMethod ({ cls := "PromiseTriesModel", name := "readBegin", desc := "()V" } : Jvm.MethodName)) ∈ lw_all := lw_g (lw_at lw_m6 12 rfl) rfl
theorem q1306 : (Jvm.Cond.code ({ cls := "PromiseTriesModel", name := "readBegin", desc := "()V" } : Jvm.MethodName) prog_21_method_31_code (1 : Nat) (Option.none : Option Jvm.ClassFile.FieldType)) ∈ lw_all := lw_g (lw_at lw_m6 13 rfl) rfl
theorem q1307 : (Jvm.Cond.methodLink "PromiseTriesModel" (191 : Nat) ({ cls := "PromiseTriesModel", name := "nests", desc := "()V" } : Jvm.MethodName)) ∈ lw_all := lw_g (lw_at lw_m6 14 rfl) rfl
theorem q1308 : (Jvm.Cond.privateMethod ({ cls := "PromiseTriesModel", name := "nests", desc := "()V" } : Jvm.MethodName)) ∈ lw_tbl := lw_at lw_m6 15 rfl
theorem q1309 : (Jvm.Cond.instanceMethod ({ cls := "PromiseTriesModel", name := "nests", desc := "()V" } : Jvm.MethodName)) ∈ lw_all := lw_g (lw_at lw_m6 16 rfl) rfl
theorem q1310 : (Jvm.Cond.code ({ cls := "PromiseTriesModel", name := "nests", desc := "()V" } : Jvm.MethodName) prog_21_method_15_code (1 : Nat) (Option.none : Option Jvm.ClassFile.FieldType)) ∈ lw_all := lw_g (lw_at lw_m6 17 rfl) rfl
theorem q1311 : (Jvm.Cond.methodLink "PromiseTriesModel" (194 : Nat) ({ cls := "PromiseTriesModel", name := "flag", desc := "(Z)I" } : Jvm.MethodName)) ∈ lw_all := lw_g (lw_at lw_m6 18 rfl) rfl
theorem q1312 : (Jvm.Cond.static ({ cls := "PromiseTriesModel", name := "flag", desc := "(Z)I" } : Jvm.MethodName)) ∈ lw_all := lw_g (lw_at lw_m6 19 rfl) rfl
theorem q1313 : (Jvm.Cond.code ({ cls := "PromiseTriesModel", name := "flag", desc := "(Z)I" } : Jvm.MethodName) prog_21_method_4_code (1 : Nat) (Option.some Jvm.ClassFile.FieldType.int)) ∈ lw_all := lw_g (lw_at lw_m6 20 rfl) rfl
theorem q1314 : (Jvm.Cond.methodLink "PromiseTriesModel" (250 : Nat) ({ cls := "PromiseTriesModel", name := "readCondition", desc := "(Z)V" } : Jvm.MethodName)) ∈ lw_all := lw_g (lw_at lw_m6 21 rfl) rfl
theorem q1315 : (Jvm.Cond.privateMethod ({ cls := "PromiseTriesModel", name := "readCondition", desc := "(Z)V" } : Jvm.MethodName)) ∈ lw_tbl := lw_at lw_m6 22 rfl
theorem q1316 : (Jvm.Cond.instanceMethod ({ cls := "PromiseTriesModel", name := "readCondition", desc := "(Z)V" } : Jvm.MethodName)) ∈ lw_all := lw_g (lw_at lw_m6 23 rfl) rfl
theorem q1317 : (Jvm.Cond.code ({ cls := "PromiseTriesModel", name := "readCondition", desc := "(Z)V" } : Jvm.MethodName) prog_21_method_21_code (5 : Nat) (Option.none : Option Jvm.ClassFile.FieldType)) ∈ lw_all := lw_g (lw_at lw_m6 24 rfl) rfl
theorem q1318 : (Jvm.Cond.methodLink "PromiseTriesModel" (198 : Nat) ({ cls := "PromiseTriesModel", name := "opensDepth", desc := "()V" } : Jvm.MethodName)) ∈ lw_all := lw_g (lw_at lw_m6 25 rfl) rfl
theorem q1319 : (Jvm.Cond.privateMethod ({ cls := "PromiseTriesModel", name := "opensDepth", desc := "()V" } : Jvm.MethodName)) ∈ lw_tbl := lw_at lw_m6 26 rfl
theorem q1320 : (Jvm.Cond.instanceMethod ({ cls := "PromiseTriesModel", name := "opensDepth", desc := "()V" } : Jvm.MethodName)) ∈ lw_all := lw_g (lw_at lw_m6 27 rfl) rfl
theorem q1321 : (Jvm.Cond.code ({ cls := "PromiseTriesModel", name := "opensDepth", desc := "()V" } : Jvm.MethodName) prog_21_method_17_code (1 : Nat) (Option.none : Option Jvm.ClassFile.FieldType)) ∈ lw_all := lw_g (lw_at lw_m6 28 rfl) rfl
theorem q1322 : (Jvm.Cond.methodLink "PromiseTriesModel" (208 : Nat) ({ cls := "PromiseTriesModel", name := "readOperand", desc := "()V" } : Jvm.MethodName)) ∈ lw_all := lw_g (lw_at lw_m6 29 rfl) rfl
theorem q1323 : (Jvm.Cond.privateMethod ({ cls := "PromiseTriesModel", name := "readOperand", desc := "()V" } : Jvm.MethodName)) ∈ lw_tbl := lw_at lw_m6 30 rfl
theorem q1324 : (Jvm.Cond.instanceMethod ({ cls := "PromiseTriesModel", name := "readOperand", desc := "()V" } : Jvm.MethodName)) ∈ lw_all := lw_g (lw_at lw_m6 31 rfl) rfl
theorem q1325 : (Jvm.Cond.code ({ cls := "PromiseTriesModel", name := "readOperand", desc := "()V" } : Jvm.MethodName) prog_21_method_20_code (2 : Nat) (Option.none : Option Jvm.ClassFile.FieldType)) ∈ lw_all := lw_g (lw_at lw_m6 32 rfl) rfl
theorem q1326 : (Jvm.Cond.methodLink "PromiseTriesModel" (201 : Nat) ({ cls := "PromiseTriesModel", name := "wires", desc := "(I)V" } : Jvm.MethodName)) ∈ lw_all := lw_g (lw_at lw_m6 33 rfl) rfl
theorem q1327 : (Jvm.Cond.privateMethod ({ cls := "PromiseTriesModel", name := "wires", desc := "(I)V" } : Jvm.MethodName)) ∈ lw_tbl := lw_at lw_m6 34 rfl
theorem q1328 : (Jvm.Cond.instanceMethod ({ cls := "PromiseTriesModel", name := "wires", desc := "(I)V" } : Jvm.MethodName)) ∈ lw_all := lw_g (lw_at lw_m6 35 rfl) rfl
theorem q1329 : (Jvm.Cond.code ({ cls := "PromiseTriesModel", name := "wires", desc := "(I)V" } : Jvm.MethodName) prog_21_method_16_code (3 : Nat) (Option.none : Option Jvm.ClassFile.FieldType)) ∈ lw_all := lw_g (lw_at lw_m6 36 rfl) rfl
theorem q1330 : (Jvm.Cond.constantLong "PromiseTriesModel" (183 : Nat) (-1 : Int64)) ∈ lw_all := lw_g (lw_at lw_m6 37 rfl) rfl
theorem q1331 : (Jvm.Cond.methodLink "PromiseTriesModel" (205 : Nat) ({ cls := "PromiseTriesModel", name := "joinsAnds", desc := "()V" } : Jvm.MethodName)) ∈ lw_all := lw_g (lw_at lw_m6 38 rfl) rfl
theorem q1332 : (Jvm.Cond.privateMethod ({ cls := "PromiseTriesModel", name := "joinsAnds", desc := "()V" } : Jvm.MethodName)) ∈ lw_tbl := lw_at lw_m6 39 rfl
theorem q1333 : (Jvm.Cond.instanceMethod ({ cls := "PromiseTriesModel", name := "joinsAnds", desc := "()V" } : Jvm.MethodName)) ∈ lw_all := lw_g (lw_at lw_m6 40 rfl) rfl
theorem q1334 : (Jvm.Cond.code ({ cls := "PromiseTriesModel", name := "joinsAnds", desc := "()V" } : Jvm.MethodName) prog_21_method_18_code (4 : Nat) (Option.none : Option Jvm.ClassFile.FieldType)) ∈ lw_all := lw_g (lw_at lw_m6 41 rfl) rfl
theorem q1335 : (Jvm.Cond.methodLink "PromiseTriesModel" (211 : Nat) ({ cls := "PromiseTriesModel", name := "joinsOrs", desc := "()V" } : Jvm.MethodName)) ∈ lw_all := lw_g (lw_at lw_m6 42 rfl) rfl
theorem q1336 : (Jvm.Cond.privateMethod ({ cls := "PromiseTriesModel", name := "joinsOrs", desc := "()V" } : Jvm.MethodName)) ∈ lw_tbl := lw_at lw_m6 43 rfl
theorem q1337 : (Jvm.Cond.instanceMethod ({ cls := "PromiseTriesModel", name := "joinsOrs", desc := "()V" } : Jvm.MethodName)) ∈ lw_all := lw_g (lw_at lw_m6 44 rfl) rfl
theorem q1338 : (Jvm.Cond.code ({ cls := "PromiseTriesModel", name := "joinsOrs", desc := "()V" } : Jvm.MethodName) prog_21_method_19_code (2 : Nat) (Option.none : Option Jvm.ClassFile.FieldType)) ∈ lw_all := lw_g (lw_at lw_m6 45 rfl) rfl
theorem q1339 : (Jvm.Cond.methodLink "PromiseTriesModel" (254 : Nat) ({ cls := "PromiseTriesModel", name := "onePlace", desc := "()V" } : Jvm.MethodName)) ∈ lw_all := lw_g (lw_at lw_m6 46 rfl) rfl
theorem q1340 : (Jvm.Cond.privateMethod ({ cls := "PromiseTriesModel", name := "onePlace", desc := "()V" } : Jvm.MethodName)) ∈ lw_tbl := lw_at lw_m6 47 rfl
theorem q1341 : (Jvm.Cond.instanceMethod ({ cls := "PromiseTriesModel", name := "onePlace", desc := "()V" } : Jvm.MethodName)) ∈ lw_all := lw_g (lw_at lw_m6 48 rfl) rfl
theorem q1342 : (Jvm.Cond.code ({ cls := "PromiseTriesModel", name := "onePlace", desc := "()V" } : Jvm.MethodName) prog_21_method_28_code (5 : Nat) (Option.none : Option Jvm.ClassFile.FieldType)) ∈ lw_all := lw_g (lw_at lw_m6 49 rfl) rfl
theorem q1343 : (Jvm.Cond.methodLink "PromiseTriesModel" (275 : Nat) ({ cls := "PromiseTriesModel", name := "readEnds", desc := "()V" } : Jvm.MethodName)) ∈ lw_all := lw_g (lw_at lw_m6 50 rfl) rfl
theorem q1344 : (Jvm.Cond.privateMethod ({ cls := "PromiseTriesModel", name := "readEnds", desc := "()V" } : Jvm.MethodName)) ∈ lw_tbl := lw_at lw_m6 51 rfl
theorem q1345 : (Jvm.Cond.instanceMethod ({ cls := "PromiseTriesModel", name := "readEnds", desc := "()V" } : Jvm.MethodName)) ∈ lw_all := lw_g (lw_at lw_m6 52 rfl) rfl
theorem q1346 : (Jvm.Cond.code ({ cls := "PromiseTriesModel", name := "readEnds", desc := "()V" } : Jvm.MethodName) prog_21_method_33_code (2 : Nat) (Option.none : Option Jvm.ClassFile.FieldType)) ∈ lw_all := lw_g (lw_at lw_m6 53 rfl) rfl
theorem q1347 : (Jvm.Cond.methodLink "PromiseTriesModel" (263 : Nat) ({ cls := "PromiseTriesModel", name := "readTimes", desc := "()V" } : Jvm.MethodName)) ∈ lw_all := lw_g (lw_at lw_m6 54 rfl) rfl
theorem q1348 : (Jvm.Cond.privateMethod ({ cls := "PromiseTriesModel", name := "readTimes", desc := "()V" } : Jvm.MethodName)) ∈ lw_tbl := lw_at lw_m6 55 rfl
theorem q1349 : (Jvm.Cond.instanceMethod ({ cls := "PromiseTriesModel", name := "readTimes", desc := "()V" } : Jvm.MethodName)) ∈ lw_all := lw_g (lw_at lw_m6 56 rfl) rfl
theorem q1350 : (Jvm.Cond.code ({ cls := "PromiseTriesModel", name := "readTimes", desc := "()V" } : Jvm.MethodName) prog_21_method_32_code (3 : Nat) (Option.none : Option Jvm.ClassFile.FieldType)) ∈ lw_all := lw_g (lw_at lw_m6 57 rfl) rfl
theorem q1351 : (Jvm.Cond.methodLink "PromiseTriesModel" (257 : Nat) ({ cls := "PromiseTriesModel", name := "readNumber", desc := "(II)I" } : Jvm.MethodName)) ∈ lw_all := lw_g (lw_at lw_m6 58 rfl) rfl
theorem q1352 : (Jvm.Cond.privateMethod ({ cls := "PromiseTriesModel", name := "readNumber", desc := "(II)I" } : Jvm.MethodName)) ∈ lw_tbl := lw_at lw_m6 59 rfl
theorem q1353 : (Jvm.Cond.instanceMethod ({ cls := "PromiseTriesModel", name := "readNumber", desc := "(II)I" } : Jvm.MethodName)) ∈ lw_all := lw_g (lw_at lw_m6 60 rfl) rfl
theorem q1354 : (Jvm.Cond.code ({ cls := "PromiseTriesModel", name := "readNumber", desc := "(II)I" } : Jvm.MethodName) prog_21_method_14_code (4 : Nat) (Option.some Jvm.ClassFile.FieldType.int)) ∈ lw_all := lw_g (lw_at lw_m6 61 rfl) rfl
theorem q1355 : (Jvm.Cond.methodLink "PromiseTriesModel" (233 : Nat) ({ cls := "PromiseTriesModel", name := "greatest", desc := "(II)I" } : Jvm.MethodName)) ∈ lw_all := lw_g (lw_at lw_m6 62 rfl) rfl
theorem q1356 : (Jvm.Cond.static ({ cls := "PromiseTriesModel", name := "greatest", desc := "(II)I" } : Jvm.MethodName)) ∈ lw_all := lw_g (lw_at lw_m6 63 rfl) rfl
theorem q1357 : (Jvm.Cond.code ({ cls := "PromiseTriesModel", name := "greatest", desc := "(II)I" } : Jvm.MethodName) prog_21_method_6_code (2 : Nat) (Option.some Jvm.ClassFile.FieldType.int)) ∈ lw_all := lw_g (lw_at lw_m6 64 rfl) rfl
theorem q1358 : (Jvm.Cond.methodLink "PromiseTriesModel" (260 : Nat) ({ cls := "PromiseTriesModel", name := "repeats", desc := "(II)V" } : Jvm.MethodName)) ∈ lw_all := lw_g (lw_at lw_m6 65 rfl) rfl
theorem q1359 : (Jvm.Cond.privateMethod ({ cls := "PromiseTriesModel", name := "repeats", desc := "(II)V" } : Jvm.MethodName)) ∈ lw_tbl := lw_at lw_m6 66 rfl
theorem q1360 : (Jvm.Cond.instanceMethod ({ cls := "PromiseTriesModel", name := "repeats", desc := "(II)V" } : Jvm.MethodName)) ∈ lw_all := lw_g (lw_at lw_m6 67 rfl) rfl
theorem q1361 : (Jvm.Cond.code ({ cls := "PromiseTriesModel", name := "repeats", desc := "(II)V" } : Jvm.MethodName) prog_21_method_29_code (17 : Nat) (Option.none : Option Jvm.ClassFile.FieldType)) ∈ lw_all := lw_g (lw_at lw_m6 68 rfl) rfl
theorem q1362 : (Jvm.Cond.methodLink "PromiseTriesModel" (240 : Nat) ({ cls := "PromiseTriesModel", name := "placesNow", desc := "()I" } : Jvm.MethodName)) ∈ lw_all := lw_g (lw_at lw_m6 69 rfl) rfl
theorem q1363 : (Jvm.Cond.privateMethod ({ cls := "PromiseTriesModel", name := "placesNow", desc := "()I" } : Jvm.MethodName)) ∈ lw_tbl := lw_at lw_m6 70 rfl
theorem q1364 : (Jvm.Cond.instanceMethod ({ cls := "PromiseTriesModel", name := "placesNow", desc := "()I" } : Jvm.MethodName)) ∈ lw_all := lw_g (lw_at lw_m6 71 rfl) rfl
theorem q1365 : (Jvm.Cond.code ({ cls := "PromiseTriesModel", name := "placesNow", desc := "()I" } : Jvm.MethodName) prog_21_method_22_code (1 : Nat) (Option.some Jvm.ClassFile.FieldType.int)) ∈ lw_all := lw_g (lw_at lw_m6 72 rfl) rfl
theorem q1366 : (Jvm.Cond.methodLink "PromiseTriesModel" (226 : Nat) ({ cls := "PromiseTriesModel", name := "follows", desc := "(JJ)V" } : Jvm.MethodName)) ∈ lw_all := lw_g (lw_at lw_m6 73 rfl) rfl
theorem q1367 : (Jvm.Cond.privateMethod ({ cls := "PromiseTriesModel", name := "follows", desc := "(JJ)V" } : Jvm.MethodName)) ∈ lw_tbl := lw_at lw_m6 74 rfl
theorem q1368 : (Jvm.Cond.instanceMethod ({ cls := "PromiseTriesModel", name := "follows", desc := "(JJ)V" } : Jvm.MethodName)) ∈ lw_all := lw_g (lw_at lw_m6 75 rfl) rfl
theorem q1369 : (Jvm.Cond.code ({ cls := "PromiseTriesModel", name := "follows", desc := "(JJ)V" } : Jvm.MethodName) prog_21_method_25_code (6 : Nat) (Option.none : Option Jvm.ClassFile.FieldType)) ∈ lw_all := lw_g (lw_at lw_m6 76 rfl) rfl
theorem q1370 : (Jvm.Cond.constant "PromiseTriesModel" (217 : Nat) (1000000 : Int32)) ∈ lw_all := lw_g (lw_at lw_m6 77 rfl) rfl
theorem q1371 : (Jvm.Cond.methodLink "PromiseTriesModel" (218 : Nat) ({ cls := "PromiseTriesModel", name := "least", desc := "(II)I" } : Jvm.MethodName)) ∈ lw_all := lw_g (lw_at lw_m6 78 rfl) rfl
theorem q1372 : (Jvm.Cond.static ({ cls := "PromiseTriesModel", name := "least", desc := "(II)I" } : Jvm.MethodName)) ∈ lw_all := lw_g (lw_at lw_m6 79 rfl) rfl
theorem q1373 : (Jvm.Cond.code ({ cls := "PromiseTriesModel", name := "least", desc := "(II)I" } : Jvm.MethodName) prog_21_method_5_code (2 : Nat) (Option.some Jvm.ClassFile.FieldType.int)) ∈ lw_all := lw_g (lw_at lw_m6 80 rfl) rfl
theorem q1374 : (Jvm.Cond.methodLink "PromiseTriesModel" (266 : Nat) ({ cls := "PromiseTriesModel", name := "chains", desc := "(II)V" } : Jvm.MethodName)) ∈ lw_all := lw_g (lw_at lw_m6 81 rfl) rfl
theorem q1375 : (Jvm.Cond.privateMethod ({ cls := "PromiseTriesModel", name := "chains", desc := "(II)V" } : Jvm.MethodName)) ∈ lw_tbl := lw_at lw_m6 82 rfl
theorem q1376 : (Jvm.Cond.instanceMethod ({ cls := "PromiseTriesModel", name := "chains", desc := "(II)V" } : Jvm.MethodName)) ∈ lw_all := lw_g (lw_at lw_m6 83 rfl) rfl
theorem q1377 : (Jvm.Cond.code ({ cls := "PromiseTriesModel", name := "chains", desc := "(II)V" } : Jvm.MethodName) prog_21_method_26_code (3 : Nat) (Option.none : Option Jvm.ClassFile.FieldType)) ∈ lw_all := lw_g (lw_at lw_m6 84 rfl) rfl
theorem q1378 : (Jvm.Cond.methodLink "PromiseTriesModel" (222 : Nat) ({ cls := "PromiseTriesModel", name := "takes", desc := "(II)V" } : Jvm.MethodName)) ∈ lw_all := lw_g (lw_at lw_m6 85 rfl) rfl
theorem q1379 : (Jvm.Cond.privateMethod ({ cls := "PromiseTriesModel", name := "takes", desc := "(II)V" } : Jvm.MethodName)) ∈ lw_tbl := lw_at lw_m6 86 rfl
theorem q1380 : (Jvm.Cond.instanceMethod ({ cls := "PromiseTriesModel", name := "takes", desc := "(II)V" } : Jvm.MethodName)) ∈ lw_all := lw_g (lw_at lw_m6 87 rfl) rfl
theorem q1381 : (Jvm.Cond.code ({ cls := "PromiseTriesModel", name := "takes", desc := "(II)V" } : Jvm.MethodName) prog_21_method_23_code (3 : Nat) (Option.none : Option Jvm.ClassFile.FieldType)) ∈ lw_all := lw_g (lw_at lw_m6 88 rfl) rfl
theorem q1382 : (Jvm.Cond.methodLink "PromiseTriesModel" (230 : Nat) ({ cls := "PromiseTriesModel", name := "sum", desc := "(II)I" } : Jvm.MethodName)) ∈ lw_all := lw_g (lw_at lw_m6 89 rfl) rfl
theorem q1383 : (Jvm.Cond.static ({ cls := "PromiseTriesModel", name := "sum", desc := "(II)I" } : Jvm.MethodName)) ∈ lw_all := lw_g (lw_at lw_m6 90 rfl) rfl
theorem q1384 : (Jvm.Cond.code ({ cls := "PromiseTriesModel", name := "sum", desc := "(II)I" } : Jvm.MethodName) prog_21_method_24_code (2 : Nat) (Option.some Jvm.ClassFile.FieldType.int)) ∈ lw_all := lw_g (lw_at lw_m6 91 rfl) rfl
theorem q1385 : (Jvm.Cond.methodLink "PromiseTriesModel" (269 : Nat) ({ cls := "PromiseTriesModel", name := "chooses", desc := "(II)V" } : Jvm.MethodName)) ∈ lw_all := lw_g (lw_at lw_m6 92 rfl) rfl
theorem q1386 : (Jvm.Cond.privateMethod ({ cls := "PromiseTriesModel", name := "chooses", desc := "(II)V" } : Jvm.MethodName)) ∈ lw_tbl := lw_at lw_m6 93 rfl
theorem q1387 : (Jvm.Cond.instanceMethod ({ cls := "PromiseTriesModel", name := "chooses", desc := "(II)V" } : Jvm.MethodName)) ∈ lw_all := lw_g (lw_at lw_m6 94 rfl) rfl
theorem q1388 : (Jvm.Cond.code ({ cls := "PromiseTriesModel", name := "chooses", desc := "(II)V" } : Jvm.MethodName) prog_21_method_27_code (3 : Nat) (Option.none : Option Jvm.ClassFile.FieldType)) ∈ lw_all := lw_g (lw_at lw_m6 95 rfl) rfl
theorem q1389 : (Jvm.Cond.methodLink "PromiseTriesModel" (278 : Nat) ({ cls := "PromiseTriesModel", name := "ends", desc := "(I)V" } : Jvm.MethodName)) ∈ lw_all := lw_g (lw_at lw_m6 96 rfl) rfl
theorem q1390 : (Jvm.Cond.privateMethod ({ cls := "PromiseTriesModel", name := "ends", desc := "(I)V" } : Jvm.MethodName)) ∈ lw_tbl := lw_at lw_m6 97 rfl
theorem q1391 : (Jvm.Cond.instanceMethod ({ cls := "PromiseTriesModel", name := "ends", desc := "(I)V" } : Jvm.MethodName)) ∈ lw_all := lw_g (lw_at lw_m6 98 rfl) rfl
theorem q1392 : (Jvm.Cond.code ({ cls := "PromiseTriesModel", name := "ends", desc := "(I)V" } : Jvm.MethodName) prog_21_method_36_code (8 : Nat) (Option.none : Option Jvm.ClassFile.FieldType)) ∈ lw_all := lw_g (lw_at lw_m6 99 rfl) rfl
theorem q1393 : (Jvm.Cond.methodLink "PromiseTriesModel" (281 : Nat) ({ cls := "PromiseTriesModel", name := "isFulfillable", desc := "(II)Z" } : Jvm.MethodName)) ∈ lw_all := lw_g (lw_at lw_m6 100 rfl) rfl
theorem q1394 : (Jvm.Cond.privateMethod ({ cls := "PromiseTriesModel", name := "isFulfillable", desc := "(II)Z" } : Jvm.MethodName)) ∈ lw_tbl := lw_at lw_m6 101 rfl
theorem q1395 : (Jvm.Cond.instanceMethod ({ cls := "PromiseTriesModel", name := "isFulfillable", desc := "(II)Z" } : Jvm.MethodName)) ∈ lw_all := lw_g (lw_at lw_m6 102 rfl) rfl
theorem q1396 : (Jvm.Cond.code ({ cls := "PromiseTriesModel", name := "isFulfillable", desc := "(II)Z" } : Jvm.MethodName) prog_21_method_35_code (6 : Nat) (Option.some Jvm.ClassFile.FieldType.boolean)) ∈ lw_all := lw_g (lw_at lw_m6 103 rfl) rfl
theorem q1398 : (Jvm.Cond.instanceMethod ({ cls := "PromiseTriesModel", name := "fault", desc := "()I" } : Jvm.MethodName)) ∈ lw_all := lw_g (lw_at lw_m6 105 rfl) rfl
theorem q1399 : (Jvm.Cond.selects "PromiseTriesModel" ({ cls := "PromiseTriesModel", name := "fault", desc := "()I" } : Jvm.MethodName) ({ cls := "PromiseTriesModel", name := "fault", desc := "()I" } : Jvm.MethodName)) ∈ lw_all := lw_g (lw_at lw_m6 106 rfl) rfl
theorem q1400 : (Jvm.Cond.code ({ cls := "PromiseTriesModel", name := "fault", desc := "()I" } : Jvm.MethodName) prog_21_method_40_code (1 : Nat) (Option.some Jvm.ClassFile.FieldType.int)) ∈ lw_all := lw_g (lw_at lw_m6 107 rfl) rfl
theorem q1402 : (Jvm.Cond.instanceMethod ({ cls := "PromiseTriesModel", name := "fulfils", desc := "(IIII)I" } : Jvm.MethodName)) ∈ lw_all := lw_g (lw_at lw_m6 109 rfl) rfl
theorem q1403 : (Jvm.Cond.selects "PromiseTriesModel" ({ cls := "PromiseTriesModel", name := "fulfils", desc := "(IIII)I" } : Jvm.MethodName) ({ cls := "PromiseTriesModel", name := "fulfils", desc := "(IIII)I" } : Jvm.MethodName)) ∈ lw_all := lw_g (lw_at lw_m6 110 rfl) rfl
theorem q1404 : (Jvm.Cond.code ({ cls := "PromiseTriesModel", name := "fulfils", desc := "(IIII)I" } : Jvm.MethodName) prog_21_method_52_code (5 : Nat) (Option.some Jvm.ClassFile.FieldType.int)) ∈ lw_all := lw_g (lw_at lw_m6 111 rfl) rfl
theorem q1405 : (Jvm.Cond.methodLink "PromiseTriesModel" (309 : Nat) ({ cls := "PromiseTriesModel", name := "isConditionAsked", desc := "(III)Z" } : Jvm.MethodName)) ∈ lw_all := lw_g (lw_at lw_m6 112 rfl) rfl
theorem q1406 : (Jvm.Cond.privateMethod ({ cls := "PromiseTriesModel", name := "isConditionAsked", desc := "(III)Z" } : Jvm.MethodName)) ∈ lw_tbl := lw_at lw_m6 113 rfl
theorem q1407 : (Jvm.Cond.instanceMethod ({ cls := "PromiseTriesModel", name := "isConditionAsked", desc := "(III)Z" } : Jvm.MethodName)) ∈ lw_all := lw_g (lw_at lw_m6 114 rfl) rfl
theorem q1408 : (Jvm.Cond.code ({ cls := "PromiseTriesModel", name := "isConditionAsked", desc := "(III)Z" } : Jvm.MethodName) prog_21_method_51_code (4 : Nat) (Option.some Jvm.ClassFile.FieldType.boolean)) ∈ lw_all := lw_g (lw_at lw_m6 115 rfl) rfl
theorem q1409 : (Jvm.Cond.methodLink "PromiseTriesModel" (304 : Nat) ({ cls := "PromiseTriesModel", name := "isPromise", desc := "(I)Z" } : Jvm.MethodName)) ∈ lw_all := lw_g (lw_at lw_m6 116 rfl) rfl
theorem q1410 : (Jvm.Cond.privateMethod ({ cls := "PromiseTriesModel", name := "isPromise", desc := "(I)Z" } : Jvm.MethodName)) ∈ lw_tbl := lw_at lw_m6 117 rfl
theorem q1411 : (Jvm.Cond.instanceMethod ({ cls := "PromiseTriesModel", name := "isPromise", desc := "(I)Z" } : Jvm.MethodName)) ∈ lw_all := lw_g (lw_at lw_m6 118 rfl) rfl
theorem q1412 : (Jvm.Cond.code ({ cls := "PromiseTriesModel", name := "isPromise", desc := "(I)Z" } : Jvm.MethodName) prog_21_method_41_code (2 : Nat) (Option.some Jvm.ClassFile.FieldType.boolean)) ∈ lw_all := lw_g (lw_at lw_m6 119 rfl) rfl
theorem q1413 : (Jvm.Cond.constantLong "PromiseTriesModel" (307 : Nat) (2 : Int64)) ∈ lw_all := lw_g (lw_at lw_m6 120 rfl) rfl
theorem q1414 : (Jvm.Cond.methodLink "PromiseTriesModel" (312 : Nat) ({ cls := "PromiseTriesModel", name := "areBits", desc := "(I)Z" } : Jvm.MethodName)) ∈ lw_all := lw_g (lw_at lw_m6 121 rfl) rfl
theorem q1415 : (Jvm.Cond.static ({ cls := "PromiseTriesModel", name := "areBits", desc := "(I)Z" } : Jvm.MethodName)) ∈ lw_all := lw_g (lw_at lw_m6 122 rfl) rfl
theorem q1416 : (Jvm.Cond.code ({ cls := "PromiseTriesModel", name := "areBits", desc := "(I)Z" } : Jvm.MethodName) prog_21_method_43_code (1 : Nat) (Option.some Jvm.ClassFile.FieldType.boolean)) ∈ lw_all := lw_g (lw_at lw_m6 123 rfl) rfl
theorem q1417 : (Jvm.Cond.constantLong "PromiseTriesModel" (298 : Nat) (255 : Int64)) ∈ lw_all := lw_g (lw_at lw_m6 124 rfl) rfl
theorem q1418 : (Jvm.Cond.methodLink "PromiseTriesModel" (315 : Nat) ({ cls := "PromiseTriesModel", name := "fulfilsOff", desc := "(II)Z" } : Jvm.MethodName)) ∈ lw_all := lw_g (lw_at lw_m6 125 rfl) rfl
theorem q1419 : (Jvm.Cond.privateMethod ({ cls := "PromiseTriesModel", name := "fulfilsOff", desc := "(II)Z" } : Jvm.MethodName)) ∈ lw_tbl := lw_at lw_m6 126 rfl
theorem q1420 : (Jvm.Cond.instanceMethod ({ cls := "PromiseTriesModel", name := "fulfilsOff", desc := "(II)Z" } : Jvm.MethodName)) ∈ lw_all := lw_g (lw_at lw_m6 127 rfl) rfl
theorem q1421 : (Jvm.Cond.code ({ cls := "PromiseTriesModel", name := "fulfilsOff", desc := "(II)Z" } : Jvm.MethodName) prog_21_method_45_code (3 : Nat) (Option.some Jvm.ClassFile.FieldType.boolean)) ∈ lw_all := lw_g (lw_at lw_m6 128 rfl) rfl
theorem q1422 : (Jvm.Cond.methodLink "PromiseTriesModel" (300 : Nat) ({ cls := "PromiseTriesModel", name := "fulfilsOne", desc := "(III)Z" } : Jvm.MethodName)) ∈ lw_all := lw_g (lw_at lw_m6 129 rfl) rfl
theorem q1423 : (Jvm.Cond.privateMethod ({ cls := "PromiseTriesModel", name := "fulfilsOne", desc := "(III)Z" } : Jvm.MethodName)) ∈ lw_tbl := lw_at lw_m6 130 rfl
theorem q1424 : (Jvm.Cond.instanceMethod ({ cls := "PromiseTriesModel", name := "fulfilsOne", desc := "(III)Z" } : Jvm.MethodName)) ∈ lw_all := lw_g (lw_at lw_m6 131 rfl) rfl
theorem q1425 : (Jvm.Cond.code ({ cls := "PromiseTriesModel", name := "fulfilsOne", desc := "(III)Z" } : Jvm.MethodName) prog_21_method_44_code (4 : Nat) (Option.some Jvm.ClassFile.FieldType.boolean)) ∈ lw_all := lw_g (lw_at lw_m6 132 rfl) rfl
theorem q1427 : (Jvm.Cond.instanceMethod ({ cls := "PromiseTriesModel", name := "fulfilled", desc := "(III)I" } : Jvm.MethodName)) ∈ lw_all := lw_g (lw_at lw_m6 134 rfl) rfl
theorem q1428 : (Jvm.Cond.selects "PromiseTriesModel" ({ cls := "PromiseTriesModel", name := "fulfilled", desc := "(III)I" } : Jvm.MethodName) ({ cls := "PromiseTriesModel", name := "fulfilled", desc := "(III)I" } : Jvm.MethodName)) ∈ lw_all := lw_g (lw_at lw_m6 135 rfl) rfl
theorem q1429 : (Jvm.Cond.code ({ cls := "PromiseTriesModel", name := "fulfilled", desc := "(III)I" } : Jvm.MethodName) prog_21_method_53_code (6 : Nat) (Option.some Jvm.ClassFile.FieldType.int)) ∈ lw_all := lw_g (lw_at lw_m6 136 rfl) rfl
theorem q1430 : (Jvm.Cond.methodLink "PromiseTriesModel" (318 : Nat) ({ cls := "PromiseTriesModel", name := "fulfils", desc := "(IIII)I" } : Jvm.MethodName)) ∈ lw_all := lw_g (lw_at lw_m6 137 rfl) rfl
theorem q1432 : (Jvm.Cond.instanceMethod ({ cls := "PromiseTriesModel", name := "matches", desc := "(IIII)I" } : Jvm.MethodName)) ∈ lw_all := lw_g (lw_at lw_m6 139 rfl) rfl
theorem q1433 : (Jvm.Cond.selects "PromiseTriesModel" ({ cls := "PromiseTriesModel", name := "matches", desc := "(IIII)I" } : Jvm.MethodName) ({ cls := "PromiseTriesModel", name := "matches", desc := "(IIII)I" } : Jvm.MethodName)) ∈ lw_all := lw_g (lw_at lw_m6 140 rfl) rfl
theorem q1434 : (Jvm.Cond.code ({ cls := "PromiseTriesModel", name := "matches", desc := "(IIII)I" } : Jvm.MethodName) prog_21_method_54_code (8 : Nat) (Option.some Jvm.ClassFile.FieldType.int)) ∈ lw_all := lw_g (lw_at lw_m6 141 rfl) rfl
theorem q1435 : (Jvm.Cond.methodLink "PromiseTriesModel" (322 : Nat) ({ cls := "PromiseTriesModel", name := "isSide", desc := "(I)Z" } : Jvm.MethodName)) ∈ lw_all := lw_g (lw_at lw_m6 142 rfl) rfl
theorem q1436 : (Jvm.Cond.static ({ cls := "PromiseTriesModel", name := "isSide", desc := "(I)Z" } : Jvm.MethodName)) ∈ lw_all := lw_g (lw_at lw_m6 143 rfl) rfl
theorem q1437 : (Jvm.Cond.code ({ cls := "PromiseTriesModel", name := "isSide", desc := "(I)Z" } : Jvm.MethodName) prog_21_method_42_code (1 : Nat) (Option.some Jvm.ClassFile.FieldType.boolean)) ∈ lw_all := lw_g (lw_at lw_m6 144 rfl) rfl
theorem q1438 : (Jvm.Cond.methodLink "PromiseTriesModel" (325 : Nat) ({ cls := "PromiseTriesModel", name := "findsFulfilling", desc := "(I)V" } : Jvm.MethodName)) ∈ lw_all := lw_g (lw_at lw_m6 145 rfl) rfl
theorem q1439 : (Jvm.Cond.privateMethod ({ cls := "PromiseTriesModel", name := "findsFulfilling", desc := "(I)V" } : Jvm.MethodName)) ∈ lw_tbl := lw_at lw_m6 146 rfl
theorem q1440 : (Jvm.Cond.instanceMethod ({ cls := "PromiseTriesModel", name := "findsFulfilling", desc := "(I)V" } : Jvm.MethodName)) ∈ lw_all := lw_g (lw_at lw_m6 147 rfl) rfl
theorem q1441 : (Jvm.Cond.code ({ cls := "PromiseTriesModel", name := "findsFulfilling", desc := "(I)V" } : Jvm.MethodName) prog_21_method_46_code (8 : Nat) (Option.none : Option Jvm.ClassFile.FieldType)) ∈ lw_all := lw_g (lw_at lw_m6 148 rfl) rfl
theorem q1442 : (Jvm.Cond.methodLink "PromiseTriesModel" (328 : Nat) ({ cls := "PromiseTriesModel", name := "firstOf", desc := "(I)J" } : Jvm.MethodName)) ∈ lw_all := lw_g (lw_at lw_m6 149 rfl) rfl
theorem q1443 : (Jvm.Cond.privateMethod ({ cls := "PromiseTriesModel", name := "firstOf", desc := "(I)J" } : Jvm.MethodName)) ∈ lw_tbl := lw_at lw_m6 150 rfl
theorem q1444 : (Jvm.Cond.instanceMethod ({ cls := "PromiseTriesModel", name := "firstOf", desc := "(I)J" } : Jvm.MethodName)) ∈ lw_all := lw_g (lw_at lw_m6 151 rfl) rfl
theorem q1445 : (Jvm.Cond.code ({ cls := "PromiseTriesModel", name := "firstOf", desc := "(I)J" } : Jvm.MethodName) prog_21_method_48_code (2 : Nat) (Option.some Jvm.ClassFile.FieldType.long)) ∈ lw_all := lw_g (lw_at lw_m6 152 rfl) rfl
theorem q1446 : (Jvm.Cond.methodLink "PromiseTriesModel" (332 : Nat) ({ cls := "PromiseTriesModel", name := "nextOf", desc := "(IJ)J" } : Jvm.MethodName)) ∈ lw_all := lw_g (lw_at lw_m6 153 rfl) rfl
theorem q1447 : (Jvm.Cond.privateMethod ({ cls := "PromiseTriesModel", name := "nextOf", desc := "(IJ)J" } : Jvm.MethodName)) ∈ lw_tbl := lw_at lw_m6 154 rfl
theorem q1448 : (Jvm.Cond.instanceMethod ({ cls := "PromiseTriesModel", name := "nextOf", desc := "(IJ)J" } : Jvm.MethodName)) ∈ lw_all := lw_g (lw_at lw_m6 155 rfl) rfl
theorem q1449 : (Jvm.Cond.code ({ cls := "PromiseTriesModel", name := "nextOf", desc := "(IJ)J" } : Jvm.MethodName) prog_21_method_47_code (7 : Nat) (Option.some Jvm.ClassFile.FieldType.long)) ∈ lw_all := lw_g (lw_at lw_m6 156 rfl) rfl
theorem q1450 : (Jvm.Cond.methodLink "PromiseTriesModel" (336 : Nat) ({ cls := "PromiseTriesModel", name := "isEnd", desc := "(IJ)Z" } : Jvm.MethodName)) ∈ lw_all := lw_g (lw_at lw_m6 157 rfl) rfl
theorem q1451 : (Jvm.Cond.privateMethod ({ cls := "PromiseTriesModel", name := "isEnd", desc := "(IJ)Z" } : Jvm.MethodName)) ∈ lw_tbl := lw_at lw_m6 158 rfl
theorem q1452 : (Jvm.Cond.instanceMethod ({ cls := "PromiseTriesModel", name := "isEnd", desc := "(IJ)Z" } : Jvm.MethodName)) ∈ lw_all := lw_g (lw_at lw_m6 159 rfl) rfl
theorem q1453 : (Jvm.Cond.code ({ cls := "PromiseTriesModel", name := "isEnd", desc := "(IJ)Z" } : Jvm.MethodName) prog_21_method_49_code (4 : Nat) (Option.some Jvm.ClassFile.FieldType.boolean)) ∈ lw_all := lw_g (lw_at lw_m6 160 rfl) rfl
theorem q1455 : (Jvm.Cond.instanceMethod ({ cls := "PromiseTriesModel", name := "might", desc := "(III)I" } : Jvm.MethodName)) ∈ lw_all := lw_g (lw_at lw_m6 162 rfl) rfl
theorem q1456 : (Jvm.Cond.selects "PromiseTriesModel" ({ cls := "PromiseTriesModel", name := "might", desc := "(III)I" } : Jvm.MethodName) ({ cls := "PromiseTriesModel", name := "might", desc := "(III)I" } : Jvm.MethodName)) ∈ lw_all := lw_g (lw_at lw_m6 163 rfl) rfl
theorem q1457 : (Jvm.Cond.code ({ cls := "PromiseTriesModel", name := "might", desc := "(III)I" } : Jvm.MethodName) prog_21_method_55_code (7 : Nat) (Option.some Jvm.ClassFile.FieldType.int)) ∈ lw_all := lw_g (lw_at lw_m6 164 rfl) rfl
theorem q1458 : (Jvm.Cond.methodLink "PromiseTriesModel" (340 : Nat) ({ cls := "PromiseTriesModel", name := "canEnd", desc := "(IJ)Z" } : Jvm.MethodName)) ∈ lw_all := lw_g (lw_at lw_m6 165 rfl) rfl
theorem q1459 : (Jvm.Cond.privateMethod ({ cls := "PromiseTriesModel", name := "canEnd", desc := "(IJ)Z" } : Jvm.MethodName)) ∈ lw_tbl := lw_at lw_m6 166 rfl
theorem q1460 : (Jvm.Cond.instanceMethod ({ cls := "PromiseTriesModel", name := "canEnd", desc := "(IJ)Z" } : Jvm.MethodName)) ∈ lw_all := lw_g (lw_at lw_m6 167 rfl) rfl
theorem q1461 : (Jvm.Cond.code ({ cls := "PromiseTriesModel", name := "canEnd", desc := "(IJ)Z" } : Jvm.MethodName) prog_21_method_50_code (4 : Nat) (Option.some Jvm.ClassFile.FieldType.boolean)) ∈ lw_all := lw_g (lw_at lw_m6 168 rfl) rfl
theorem q1463 : (Jvm.Cond.instanceMethod ({ cls := "PromiseTriesModel", name := "promise", desc := "(II)I" } : Jvm.MethodName)) ∈ lw_all := lw_g (lw_at lw_m6 170 rfl) rfl
theorem q1464 : (Jvm.Cond.selects "PromiseTriesModel" ({ cls := "PromiseTriesModel", name := "promise", desc := "(II)I" } : Jvm.MethodName) ({ cls := "PromiseTriesModel", name := "promise", desc := "(II)I" } : Jvm.MethodName)) ∈ lw_all := lw_g (lw_at lw_m6 171 rfl) rfl
theorem q1465 : (Jvm.Cond.code ({ cls := "PromiseTriesModel", name := "promise", desc := "(II)I" } : Jvm.MethodName) prog_21_method_56_code (4 : Nat) (Option.some Jvm.ClassFile.FieldType.int)) ∈ lw_all := lw_g (lw_at lw_m6 172 rfl) rfl
theorem q1466 : (Jvm.Cond.constantLong "PromiseTriesModel" (343 : Nat) (9 : Int64)) ∈ lw_all := lw_g (lw_at lw_m6 173 rfl) rfl
theorem q1468 : (Jvm.Cond.instanceMethod ({ cls := "PromiseTriesModel", name := "verdict", desc := "(II)I" } : Jvm.MethodName)) ∈ lw_all := lw_g (lw_at lw_m6 175 rfl) rfl
theorem q1469 : (Jvm.Cond.selects "PromiseTriesModel" ({ cls := "PromiseTriesModel", name := "verdict", desc := "(II)I" } : Jvm.MethodName) ({ cls := "PromiseTriesModel", name := "verdict", desc := "(II)I" } : Jvm.MethodName)) ∈ lw_all := lw_g (lw_at lw_m6 176 rfl) rfl
theorem q1470 : (Jvm.Cond.code ({ cls := "PromiseTriesModel", name := "verdict", desc := "(II)I" } : Jvm.MethodName) prog_21_method_66_code (3 : Nat) (Option.some Jvm.ClassFile.FieldType.int)) ∈ lw_all := lw_g (lw_at lw_m6 177 rfl) rfl
theorem q1471 : (Jvm.Cond.methodLink "PromiseTriesModel" (373 : Nat) ({ cls := "PromiseTriesModel", name := "isTry", desc := "(II)Z" } : Jvm.MethodName)) ∈ lw_all := lw_g (lw_at lw_m6 178 rfl) rfl
theorem q1472 : (Jvm.Cond.privateMethod ({ cls := "PromiseTriesModel", name := "isTry", desc := "(II)Z" } : Jvm.MethodName)) ∈ lw_tbl := lw_at lw_m6 179 rfl
theorem q1473 : (Jvm.Cond.instanceMethod ({ cls := "PromiseTriesModel", name := "isTry", desc := "(II)Z" } : Jvm.MethodName)) ∈ lw_all := lw_g (lw_at lw_m6 180 rfl) rfl
theorem q1474 : (Jvm.Cond.code ({ cls := "PromiseTriesModel", name := "isTry", desc := "(II)Z" } : Jvm.MethodName) prog_21_method_64_code (3 : Nat) (Option.some Jvm.ClassFile.FieldType.boolean)) ∈ lw_all := lw_g (lw_at lw_m6 181 rfl) rfl
theorem q1475 : (Jvm.Cond.methodLink "PromiseTriesModel" (367 : Nat) ({ cls := "PromiseTriesModel", name := "isTick", desc := "(I)Z" } : Jvm.MethodName)) ∈ lw_all := lw_g (lw_at lw_m6 182 rfl) rfl
theorem q1476 : (Jvm.Cond.privateMethod ({ cls := "PromiseTriesModel", name := "isTick", desc := "(I)Z" } : Jvm.MethodName)) ∈ lw_tbl := lw_at lw_m6 183 rfl
theorem q1477 : (Jvm.Cond.instanceMethod ({ cls := "PromiseTriesModel", name := "isTick", desc := "(I)Z" } : Jvm.MethodName)) ∈ lw_all := lw_g (lw_at lw_m6 184 rfl) rfl
theorem q1478 : (Jvm.Cond.code ({ cls := "PromiseTriesModel", name := "isTick", desc := "(I)Z" } : Jvm.MethodName) prog_21_method_63_code (2 : Nat) (Option.some Jvm.ClassFile.FieldType.boolean)) ∈ lw_all := lw_g (lw_at lw_m6 185 rfl) rfl
theorem q1479 : (Jvm.Cond.methodLink "PromiseTriesModel" (370 : Nat) ({ cls := "PromiseTriesModel", name := "goesThrough", desc := "(II)V" } : Jvm.MethodName)) ∈ lw_all := lw_g (lw_at lw_m6 186 rfl) rfl
theorem q1480 : (Jvm.Cond.privateMethod ({ cls := "PromiseTriesModel", name := "goesThrough", desc := "(II)V" } : Jvm.MethodName)) ∈ lw_tbl := lw_at lw_m6 187 rfl
theorem q1481 : (Jvm.Cond.instanceMethod ({ cls := "PromiseTriesModel", name := "goesThrough", desc := "(II)V" } : Jvm.MethodName)) ∈ lw_all := lw_g (lw_at lw_m6 188 rfl) rfl
theorem q1482 : (Jvm.Cond.code ({ cls := "PromiseTriesModel", name := "goesThrough", desc := "(II)V" } : Jvm.MethodName) prog_21_method_61_code (9 : Nat) (Option.none : Option Jvm.ClassFile.FieldType)) ∈ lw_all := lw_g (lw_at lw_m6 189 rfl) rfl
theorem q1483 : (Jvm.Cond.methodLink "PromiseTriesModel" (349 : Nat) ({ cls := "PromiseTriesModel", name := "goesOn", desc := "(III)V" } : Jvm.MethodName)) ∈ lw_all := lw_g (lw_at lw_m6 190 rfl) rfl
theorem q1484 : (Jvm.Cond.privateMethod ({ cls := "PromiseTriesModel", name := "goesOn", desc := "(III)V" } : Jvm.MethodName)) ∈ lw_tbl := lw_at lw_m6 191 rfl
theorem q1485 : (Jvm.Cond.instanceMethod ({ cls := "PromiseTriesModel", name := "goesOn", desc := "(III)V" } : Jvm.MethodName)) ∈ lw_all := lw_g (lw_at lw_m6 192 rfl) rfl
theorem q1486 : (Jvm.Cond.code ({ cls := "PromiseTriesModel", name := "goesOn", desc := "(III)V" } : Jvm.MethodName) prog_21_method_57_code (7 : Nat) (Option.none : Option Jvm.ClassFile.FieldType)) ∈ lw_all := lw_g (lw_at lw_m6 193 rfl) rfl
theorem q1487 : (Jvm.Cond.methodLink "PromiseTriesModel" (345 : Nat) ({ cls := "PromiseTriesModel", name := "dies", desc := "(III)V" } : Jvm.MethodName)) ∈ lw_all := lw_g (lw_at lw_m6 194 rfl) rfl
theorem q1488 : (Jvm.Cond.privateMethod ({ cls := "PromiseTriesModel", name := "dies", desc := "(III)V" } : Jvm.MethodName)) ∈ lw_tbl := lw_at lw_m6 195 rfl
theorem q1489 : (Jvm.Cond.instanceMethod ({ cls := "PromiseTriesModel", name := "dies", desc := "(III)V" } : Jvm.MethodName)) ∈ lw_all := lw_g (lw_at lw_m6 196 rfl) rfl
theorem q1490 : (Jvm.Cond.code ({ cls := "PromiseTriesModel", name := "dies", desc := "(III)V" } : Jvm.MethodName) prog_21_method_58_code (4 : Nat) (Option.none : Option Jvm.ClassFile.FieldType)) ∈ lw_all := lw_g (lw_at lw_m6 197 rfl) rfl
theorem q1491 : (Jvm.Cond.methodLink "PromiseTriesModel" (358 : Nat) ({ cls := "PromiseTriesModel", name := "begins", desc := "(II)V" } : Jvm.MethodName)) ∈ lw_all := lw_g (lw_at lw_m6 198 rfl) rfl
theorem q1492 : (Jvm.Cond.privateMethod ({ cls := "PromiseTriesModel", name := "begins", desc := "(II)V" } : Jvm.MethodName)) ∈ lw_tbl := lw_at lw_m6 199 rfl
theorem q1493 : (Jvm.Cond.instanceMethod ({ cls := "PromiseTriesModel", name := "begins", desc := "(II)V" } : Jvm.MethodName)) ∈ lw_all := lw_g (lw_at lw_m6 200 rfl) rfl
theorem q1494 : (Jvm.Cond.code ({ cls := "PromiseTriesModel", name := "begins", desc := "(II)V" } : Jvm.MethodName) prog_21_method_59_code (3 : Nat) (Option.none : Option Jvm.ClassFile.FieldType)) ∈ lw_all := lw_g (lw_at lw_m6 201 rfl) rfl
theorem q1495 : (Jvm.Cond.methodLink "PromiseTriesModel" (360 : Nat) ({ cls := "PromiseTriesModel", name := "verdictBy", desc := "(IIIJ)I" } : Jvm.MethodName)) ∈ lw_all := lw_g (lw_at lw_m6 202 rfl) rfl
theorem q1496 : (Jvm.Cond.privateMethod ({ cls := "PromiseTriesModel", name := "verdictBy", desc := "(IIIJ)I" } : Jvm.MethodName)) ∈ lw_tbl := lw_at lw_m6 203 rfl
theorem q1497 : (Jvm.Cond.instanceMethod ({ cls := "PromiseTriesModel", name := "verdictBy", desc := "(IIIJ)I" } : Jvm.MethodName)) ∈ lw_all := lw_g (lw_at lw_m6 204 rfl) rfl
theorem q1498 : (Jvm.Cond.code ({ cls := "PromiseTriesModel", name := "verdictBy", desc := "(IIIJ)I" } : Jvm.MethodName) prog_21_method_62_code (6 : Nat) (Option.some Jvm.ClassFile.FieldType.int)) ∈ lw_all := lw_g (lw_at lw_m6 205 rfl) rfl
theorem q1499 : (Jvm.Cond.methodLink "PromiseTriesModel" (364 : Nat) ({ cls := "PromiseTriesModel", name := "isAny", desc := "(III)Z" } : Jvm.MethodName)) ∈ lw_all := lw_g (lw_at lw_m6 206 rfl) rfl
theorem q1500 : (Jvm.Cond.privateMethod ({ cls := "PromiseTriesModel", name := "isAny", desc := "(III)Z" } : Jvm.MethodName)) ∈ lw_tbl := lw_at lw_m6 207 rfl
theorem q1501 : (Jvm.Cond.instanceMethod ({ cls := "PromiseTriesModel", name := "isAny", desc := "(III)Z" } : Jvm.MethodName)) ∈ lw_all := lw_g (lw_at lw_m6 208 rfl) rfl
theorem q1502 : (Jvm.Cond.code ({ cls := "PromiseTriesModel", name := "isAny", desc := "(III)Z" } : Jvm.MethodName) prog_21_method_60_code (6 : Nat) (Option.some Jvm.ClassFile.FieldType.boolean)) ∈ lw_all := lw_g (lw_at lw_m6 209 rfl) rfl
theorem q1504 : (Jvm.Cond.instanceMethod ({ cls := "PromiseTriesModel", name := "decided", desc := "(II)I" } : Jvm.MethodName)) ∈ lw_all := lw_g (lw_at lw_m6 211 rfl) rfl
theorem q1505 : (Jvm.Cond.selects "PromiseTriesModel" ({ cls := "PromiseTriesModel", name := "decided", desc := "(II)I" } : Jvm.MethodName) ({ cls := "PromiseTriesModel", name := "decided", desc := "(II)I" } : Jvm.MethodName)) ∈ lw_all := lw_g (lw_at lw_m6 212 rfl) rfl
theorem q1506 : (Jvm.Cond.code ({ cls := "PromiseTriesModel", name := "decided", desc := "(II)I" } : Jvm.MethodName) prog_21_method_67_code (3 : Nat) (Option.some Jvm.ClassFile.FieldType.int)) ∈ lw_all := lw_g (lw_at lw_m6 213 rfl) rfl
theorem q1508 : (Jvm.Cond.instanceMethod ({ cls := "PromiseTriesModel", name := "duties", desc := "(II)I" } : Jvm.MethodName)) ∈ lw_all := lw_g (lw_at lw_m6 215 rfl) rfl
theorem q1509 : (Jvm.Cond.selects "PromiseTriesModel" ({ cls := "PromiseTriesModel", name := "duties", desc := "(II)I" } : Jvm.MethodName) ({ cls := "PromiseTriesModel", name := "duties", desc := "(II)I" } : Jvm.MethodName)) ∈ lw_all := lw_g (lw_at lw_m6 216 rfl) rfl
theorem q1510 : (Jvm.Cond.code ({ cls := "PromiseTriesModel", name := "duties", desc := "(II)I" } : Jvm.MethodName) prog_21_method_68_code (3 : Nat) (Option.some Jvm.ClassFile.FieldType.int)) ∈ lw_all := lw_g (lw_at lw_m6 217 rfl) rfl
theorem q1511 : (Jvm.Cond.methodLink "PromiseTriesModel" (376 : Nat) ({ cls := "PromiseTriesModel", name := "dutiesFrom", desc := "(I)I" } : Jvm.MethodName)) ∈ lw_all := lw_g (lw_at lw_m6 218 rfl) rfl
theorem q1512 : (Jvm.Cond.privateMethod ({ cls := "PromiseTriesModel", name := "dutiesFrom", desc := "(I)I" } : Jvm.MethodName)) ∈ lw_tbl := lw_at lw_m6 219 rfl
theorem q1513 : (Jvm.Cond.instanceMethod ({ cls := "PromiseTriesModel", name := "dutiesFrom", desc := "(I)I" } : Jvm.MethodName)) ∈ lw_all := lw_g (lw_at lw_m6 220 rfl) rfl
theorem q1514 : (Jvm.Cond.code ({ cls := "PromiseTriesModel", name := "dutiesFrom", desc := "(I)I" } : Jvm.MethodName) prog_21_method_65_code (4 : Nat) (Option.some Jvm.ClassFile.FieldType.int)) ∈ lw_all := lw_g (lw_at lw_m6 221 rfl) rfl
theorem q1516 : (Jvm.Cond.instanceMethod ({ cls := "PromiseTriesModel", name := "duty", desc := "(IIII)I" } : Jvm.MethodName)) ∈ lw_all := lw_g (lw_at lw_m6 223 rfl) rfl
theorem q1517 : (Jvm.Cond.selects "PromiseTriesModel" ({ cls := "PromiseTriesModel", name := "duty", desc := "(IIII)I" } : Jvm.MethodName) ({ cls := "PromiseTriesModel", name := "duty", desc := "(IIII)I" } : Jvm.MethodName)) ∈ lw_all := lw_g (lw_at lw_m6 224 rfl) rfl
theorem q1518 : (Jvm.Cond.code ({ cls := "PromiseTriesModel", name := "duty", desc := "(IIII)I" } : Jvm.MethodName) prog_21_method_69_code (7 : Nat) (Option.some Jvm.ClassFile.FieldType.int)) ∈ lw_all := lw_g (lw_at lw_m6 225 rfl) rfl
theorem q1520 : (Jvm.Cond.instanceMethod ({ cls := "PromiseTriesModel", name := "tries", desc := "(II)I" } : Jvm.MethodName)) ∈ lw_all := lw_g (lw_at lw_m6 227 rfl) rfl
theorem q1521 : (Jvm.Cond.selects "PromiseTriesModel" ({ cls := "PromiseTriesModel", name := "tries", desc := "(II)I" } : Jvm.MethodName) ({ cls := "PromiseTriesModel", name := "tries", desc := "(II)I" } : Jvm.MethodName)) ∈ lw_all := lw_g (lw_at lw_m6 228 rfl) rfl
theorem q1522 : (Jvm.Cond.code ({ cls := "PromiseTriesModel", name := "tries", desc := "(II)I" } : Jvm.MethodName) prog_21_method_71_code (3 : Nat) (Option.some Jvm.ClassFile.FieldType.int)) ∈ lw_all := lw_g (lw_at lw_m6 229 rfl) rfl
theorem q1523 : (Jvm.Cond.constantLong "PromiseTriesModel" (379 : Nat) (4 : Int64)) ∈ lw_all := lw_g (lw_at lw_m6 230 rfl) rfl
theorem q1524 : (Jvm.Cond.methodLink "PromiseTriesModel" (381 : Nat) ({ cls := "PromiseTriesModel", name := "triesOf", desc := "(II)I" } : Jvm.MethodName)) ∈ lw_all := lw_g (lw_at lw_m6 231 rfl) rfl
theorem q1525 : (Jvm.Cond.privateMethod ({ cls := "PromiseTriesModel", name := "triesOf", desc := "(II)I" } : Jvm.MethodName)) ∈ lw_tbl := lw_at lw_m6 232 rfl
theorem q1526 : (Jvm.Cond.instanceMethod ({ cls := "PromiseTriesModel", name := "triesOf", desc := "(II)I" } : Jvm.MethodName)) ∈ lw_all := lw_g (lw_at lw_m6 233 rfl) rfl
theorem q1527 : (Jvm.Cond.code ({ cls := "PromiseTriesModel", name := "triesOf", desc := "(II)I" } : Jvm.MethodName) prog_21_method_70_code (5 : Nat) (Option.some Jvm.ClassFile.FieldType.int)) ∈ lw_all := lw_g (lw_at lw_m6 234 rfl) rfl
theorem q1529 : (Jvm.Cond.instanceMethod ({ cls := "PromiseTriesModel", name := "first", desc := "(II)I" } : Jvm.MethodName)) ∈ lw_all := lw_g (lw_at lw_m6 236 rfl) rfl
theorem q1530 : (Jvm.Cond.selects "PromiseTriesModel" ({ cls := "PromiseTriesModel", name := "first", desc := "(II)I" } : Jvm.MethodName) ({ cls := "PromiseTriesModel", name := "first", desc := "(II)I" } : Jvm.MethodName)) ∈ lw_all := lw_g (lw_at lw_m6 237 rfl) rfl
theorem q1531 : (Jvm.Cond.code ({ cls := "PromiseTriesModel", name := "first", desc := "(II)I" } : Jvm.MethodName) prog_21_method_72_code (4 : Nat) (Option.some Jvm.ClassFile.FieldType.int)) ∈ lw_all := lw_g (lw_at lw_m6 238 rfl) rfl
theorem q1533 : (Jvm.Cond.instanceMethod ({ cls := "PromiseTriesModel", name := "rule", desc := "(I)I" } : Jvm.MethodName)) ∈ lw_all := lw_g (lw_at lw_m7 0 rfl) rfl
theorem q1534 : (Jvm.Cond.selects "PromiseTriesModel" ({ cls := "PromiseTriesModel", name := "rule", desc := "(I)I" } : Jvm.MethodName) ({ cls := "PromiseTriesModel", name := "rule", desc := "(I)I" } : Jvm.MethodName)) ∈ lw_all := lw_g (lw_at lw_m7 1 rfl) rfl
theorem q1535 : (Jvm.Cond.code ({ cls := "PromiseTriesModel", name := "rule", desc := "(I)I" } : Jvm.MethodName) prog_21_method_75_code (2 : Nat) (Option.some Jvm.ClassFile.FieldType.int)) ∈ lw_all := lw_g (lw_at lw_m7 2 rfl) rfl
theorem q1536 : (Jvm.Cond.constantLong "PromiseTriesModel" (384 : Nat) (7 : Int64)) ∈ lw_all := lw_g (lw_at lw_m7 3 rfl) rfl
theorem q1537 : (Jvm.Cond.methodLink "PromiseTriesModel" (386 : Nat) ({ cls := "PromiseTriesModel", name := "allDuties", desc := "()I" } : Jvm.MethodName)) ∈ lw_all := lw_g (lw_at lw_m7 4 rfl) rfl
theorem q1538 : (Jvm.Cond.privateMethod ({ cls := "PromiseTriesModel", name := "allDuties", desc := "()I" } : Jvm.MethodName)) ∈ lw_tbl := lw_at lw_m7 5 rfl
theorem q1539 : (Jvm.Cond.instanceMethod ({ cls := "PromiseTriesModel", name := "allDuties", desc := "()I" } : Jvm.MethodName)) ∈ lw_all := lw_g (lw_at lw_m7 6 rfl) rfl
theorem q1540 : (Jvm.Cond.code ({ cls := "PromiseTriesModel", name := "allDuties", desc := "()I" } : Jvm.MethodName) prog_21_method_73_code (4 : Nat) (Option.some Jvm.ClassFile.FieldType.int)) ∈ lw_all := lw_g (lw_at lw_m7 7 rfl) rfl
theorem q1541 : (Jvm.Cond.methodLink "PromiseTriesModel" (389 : Nat) ({ cls := "PromiseTriesModel", name := "allTries", desc := "(I)I" } : Jvm.MethodName)) ∈ lw_all := lw_g (lw_at lw_m7 8 rfl) rfl
theorem q1542 : (Jvm.Cond.privateMethod ({ cls := "PromiseTriesModel", name := "allTries", desc := "(I)I" } : Jvm.MethodName)) ∈ lw_tbl := lw_at lw_m7 9 rfl
theorem q1543 : (Jvm.Cond.instanceMethod ({ cls := "PromiseTriesModel", name := "allTries", desc := "(I)I" } : Jvm.MethodName)) ∈ lw_all := lw_g (lw_at lw_m7 10 rfl) rfl
theorem q1544 : (Jvm.Cond.code ({ cls := "PromiseTriesModel", name := "allTries", desc := "(I)I" } : Jvm.MethodName) prog_21_method_74_code (4 : Nat) (Option.some Jvm.ClassFile.FieldType.int)) ∈ lw_all := lw_g (lw_at lw_m7 11 rfl) rfl
theorem q1546 : (Jvm.Cond.instanceMethod ({ cls := "PromiseTriesModel", name := "tick", desc := "(I)I" } : Jvm.MethodName)) ∈ lw_all := lw_g (lw_at lw_m7 13 rfl) rfl
theorem q1547 : (Jvm.Cond.selects "PromiseTriesModel" ({ cls := "PromiseTriesModel", name := "tick", desc := "(I)I" } : Jvm.MethodName) ({ cls := "PromiseTriesModel", name := "tick", desc := "(I)I" } : Jvm.MethodName)) ∈ lw_all := lw_g (lw_at lw_m7 14 rfl) rfl
theorem q1548 : (Jvm.Cond.code ({ cls := "PromiseTriesModel", name := "tick", desc := "(I)I" } : Jvm.MethodName) prog_21_method_77_code (2 : Nat) (Option.some Jvm.ClassFile.FieldType.int)) ∈ lw_all := lw_g (lw_at lw_m7 15 rfl) rfl
theorem q1549 : (Jvm.Cond.methodLink "PromiseTriesModel" (392 : Nat) ({ cls := "PromiseTriesModel", name := "failedBy", desc := "(I)I" } : Jvm.MethodName)) ∈ lw_all := lw_g (lw_at lw_m7 16 rfl) rfl
theorem q1550 : (Jvm.Cond.privateMethod ({ cls := "PromiseTriesModel", name := "failedBy", desc := "(I)I" } : Jvm.MethodName)) ∈ lw_tbl := lw_at lw_m7 17 rfl
theorem q1551 : (Jvm.Cond.instanceMethod ({ cls := "PromiseTriesModel", name := "failedBy", desc := "(I)I" } : Jvm.MethodName)) ∈ lw_all := lw_g (lw_at lw_m7 18 rfl) rfl
theorem q1552 : (Jvm.Cond.code ({ cls := "PromiseTriesModel", name := "failedBy", desc := "(I)I" } : Jvm.MethodName) prog_21_method_76_code (5 : Nat) (Option.some Jvm.ClassFile.FieldType.int)) ∈ lw_all := lw_g (lw_at lw_m7 19 rfl) rfl
theorem q1554 : (Jvm.Cond.instanceMethod ({ cls := "PromiseTriesModel", name := "bits", desc := "(I)I" } : Jvm.MethodName)) ∈ lw_all := lw_g (lw_at lw_m7 21 rfl) rfl
theorem q1555 : (Jvm.Cond.selects "PromiseTriesModel" ({ cls := "PromiseTriesModel", name := "bits", desc := "(I)I" } : Jvm.MethodName) ({ cls := "PromiseTriesModel", name := "bits", desc := "(I)I" } : Jvm.MethodName)) ∈ lw_all := lw_g (lw_at lw_m7 22 rfl) rfl
theorem q1556 : (Jvm.Cond.code ({ cls := "PromiseTriesModel", name := "bits", desc := "(I)I" } : Jvm.MethodName) prog_21_method_78_code (2 : Nat) (Option.some Jvm.ClassFile.FieldType.int)) ∈ lw_all := lw_g (lw_at lw_m7 23 rfl) rfl
theorem q1558 : (Jvm.Cond.instanceMethod ({ cls := "PromiseTriesModel", name := "put", desc := "(II)I" } : Jvm.MethodName)) ∈ lw_all := lw_g (lw_at lw_m7 25 rfl) rfl
theorem q1559 : (Jvm.Cond.selects "PromiseTriesModel" ({ cls := "PromiseTriesModel", name := "put", desc := "(II)I" } : Jvm.MethodName) ({ cls := "PromiseTriesModel", name := "put", desc := "(II)I" } : Jvm.MethodName)) ∈ lw_all := lw_g (lw_at lw_m7 26 rfl) rfl
theorem q1560 : (Jvm.Cond.code ({ cls := "PromiseTriesModel", name := "put", desc := "(II)I" } : Jvm.MethodName) prog_21_method_79_code (4 : Nat) (Option.some Jvm.ClassFile.FieldType.int)) ∈ lw_all := lw_g (lw_at lw_m7 27 rfl) rfl
theorem q1562 : (Jvm.Cond.instanceMethod ({ cls := "PromiseTriesModel", name := "keeps", desc := "(I)I" } : Jvm.MethodName)) ∈ lw_all := lw_g (lw_at lw_m7 29 rfl) rfl
theorem q1563 : (Jvm.Cond.selects "PromiseTriesModel" ({ cls := "PromiseTriesModel", name := "keeps", desc := "(I)I" } : Jvm.MethodName) ({ cls := "PromiseTriesModel", name := "keeps", desc := "(I)I" } : Jvm.MethodName)) ∈ lw_all := lw_g (lw_at lw_m7 30 rfl) rfl
theorem q1564 : (Jvm.Cond.code ({ cls := "PromiseTriesModel", name := "keeps", desc := "(I)I" } : Jvm.MethodName) prog_21_method_80_code (3 : Nat) (Option.some Jvm.ClassFile.FieldType.int)) ∈ lw_all := lw_g (lw_at lw_m7 31 rfl) rfl
theorem q1566 : (Jvm.Cond.instanceMethod ({ cls := "PromiseTriesModel", name := "draw", desc := "(II)I" } : Jvm.MethodName)) ∈ lw_all := lw_g (lw_at lw_m7 33 rfl) rfl
theorem q1567 : (Jvm.Cond.selects "PromiseTriesModel" ({ cls := "PromiseTriesModel", name := "draw", desc := "(II)I" } : Jvm.MethodName) ({ cls := "PromiseTriesModel", name := "draw", desc := "(II)I" } : Jvm.MethodName)) ∈ lw_all := lw_g (lw_at lw_m7 34 rfl) rfl
theorem q1568 : (Jvm.Cond.code ({ cls := "PromiseTriesModel", name := "draw", desc := "(II)I" } : Jvm.MethodName) prog_21_method_82_code (5 : Nat) (Option.some Jvm.ClassFile.FieldType.int)) ∈ lw_all := lw_g (lw_at lw_m7 35 rfl) rfl
theorem q1569 : (Jvm.Cond.constantLong "PromiseTriesModel" (399 : Nat) (20 : Int64)) ∈ lw_all := lw_g (lw_at lw_m7 36 rfl) rfl
theorem q1570 : (Jvm.Cond.methodLink "PromiseTriesModel" (401 : Nat) ({ cls := "PromiseTriesModel", name := "gets", desc := "()I" } : Jvm.MethodName)) ∈ lw_all := lw_g (lw_at lw_m7 37 rfl) rfl
theorem q1571 : (Jvm.Cond.privateMethod ({ cls := "PromiseTriesModel", name := "gets", desc := "()I" } : Jvm.MethodName)) ∈ lw_tbl := lw_at lw_m7 38 rfl
theorem q1572 : (Jvm.Cond.instanceMethod ({ cls := "PromiseTriesModel", name := "gets", desc := "()I" } : Jvm.MethodName)) ∈ lw_all := lw_g (lw_at lw_m7 39 rfl) rfl
theorem q1573 : (Jvm.Cond.code ({ cls := "PromiseTriesModel", name := "gets", desc := "()I" } : Jvm.MethodName) prog_21_method_81_code (1 : Nat) (Option.some Jvm.ClassFile.FieldType.int)) ∈ lw_all := lw_g (lw_at lw_m7 40 rfl) rfl
theorem q1574 : (Jvm.Cond.constant "PromiseTriesModel" (398 : Nat) (1103515245 : Int32)) ∈ lw_all := lw_g (lw_at lw_m7 41 rfl) rfl
theorem q1576 : (Jvm.Cond.instanceMethod ({ cls := "PromiseTriesModel", name := "keep", desc := "(I)I" } : Jvm.MethodName)) ∈ lw_all := lw_g (lw_at lw_m7 43 rfl) rfl
theorem q1577 : (Jvm.Cond.selects "PromiseTriesModel" ({ cls := "PromiseTriesModel", name := "keep", desc := "(I)I" } : Jvm.MethodName) ({ cls := "PromiseTriesModel", name := "keep", desc := "(I)I" } : Jvm.MethodName)) ∈ lw_all := lw_g (lw_at lw_m7 44 rfl) rfl
theorem q1578 : (Jvm.Cond.code ({ cls := "PromiseTriesModel", name := "keep", desc := "(I)I" } : Jvm.MethodName) prog_21_method_83_code (4 : Nat) (Option.some Jvm.ClassFile.FieldType.int)) ∈ lw_all := lw_g (lw_at lw_m7 45 rfl) rfl
theorem q1580 : (Jvm.Cond.instanceMethod ({ cls := "PromiseTriesModel", name := "back", desc := "(I)I" } : Jvm.MethodName)) ∈ lw_all := lw_g (lw_at lw_m7 47 rfl) rfl
theorem q1581 : (Jvm.Cond.selects "PromiseTriesModel" ({ cls := "PromiseTriesModel", name := "back", desc := "(I)I" } : Jvm.MethodName) ({ cls := "PromiseTriesModel", name := "back", desc := "(I)I" } : Jvm.MethodName)) ∈ lw_all := lw_g (lw_at lw_m7 48 rfl) rfl
theorem q1582 : (Jvm.Cond.code ({ cls := "PromiseTriesModel", name := "back", desc := "(I)I" } : Jvm.MethodName) prog_21_method_84_code (3 : Nat) (Option.some Jvm.ClassFile.FieldType.int)) ∈ lw_all := lw_g (lw_at lw_m7 49 rfl) rfl
theorem q1584 : (Jvm.Cond.instanceMethod ({ cls := "PromiseTriesModel", name := "sheet", desc := "(III)I" } : Jvm.MethodName)) ∈ lw_all := lw_g (lw_at lw_m7 51 rfl) rfl
theorem q1585 : (Jvm.Cond.selects "PromiseTriesModel" ({ cls := "PromiseTriesModel", name := "sheet", desc := "(III)I" } : Jvm.MethodName) ({ cls := "PromiseTriesModel", name := "sheet", desc := "(III)I" } : Jvm.MethodName)) ∈ lw_all := lw_g (lw_at lw_m7 52 rfl) rfl
theorem q1586 : (Jvm.Cond.code ({ cls := "PromiseTriesModel", name := "sheet", desc := "(III)I" } : Jvm.MethodName) prog_21_method_86_code (5 : Nat) (Option.some Jvm.ClassFile.FieldType.int)) ∈ lw_all := lw_g (lw_at lw_m7 53 rfl) rfl
theorem q1587 : (Jvm.Cond.methodLink "PromiseTriesModel" (406 : Nat) ({ cls := "PromiseTriesModel", name := "isSheet", desc := "(II)Z" } : Jvm.MethodName)) ∈ lw_all := lw_g (lw_at lw_m7 54 rfl) rfl
theorem q1588 : (Jvm.Cond.static ({ cls := "PromiseTriesModel", name := "isSheet", desc := "(II)Z" } : Jvm.MethodName)) ∈ lw_all := lw_g (lw_at lw_m7 55 rfl) rfl
theorem q1589 : (Jvm.Cond.code ({ cls := "PromiseTriesModel", name := "isSheet", desc := "(II)Z" } : Jvm.MethodName) prog_21_method_85_code (2 : Nat) (Option.some Jvm.ClassFile.FieldType.boolean)) ∈ lw_all := lw_g (lw_at lw_m7 56 rfl) rfl
theorem q1590 : (Jvm.Cond.constantLong "PromiseTriesModel" (404 : Nat) (3 : Int64)) ∈ lw_all := lw_g (lw_at lw_m7 57 rfl) rfl
theorem q1592 : (Jvm.Cond.instanceMethod ({ cls := "PromiseTriesModel", name := "lay", desc := "(III)I" } : Jvm.MethodName)) ∈ lw_all := lw_g (lw_at lw_m7 59 rfl) rfl
theorem q1593 : (Jvm.Cond.selects "PromiseTriesModel" ({ cls := "PromiseTriesModel", name := "lay", desc := "(III)I" } : Jvm.MethodName) ({ cls := "PromiseTriesModel", name := "lay", desc := "(III)I" } : Jvm.MethodName)) ∈ lw_all := lw_g (lw_at lw_m7 60 rfl) rfl
theorem q1594 : (Jvm.Cond.code ({ cls := "PromiseTriesModel", name := "lay", desc := "(III)I" } : Jvm.MethodName) prog_21_method_87_code (4 : Nat) (Option.some Jvm.ClassFile.FieldType.int)) ∈ lw_all := lw_g (lw_at lw_m7 61 rfl) rfl
theorem q1595 : (Jvm.Cond.constant "PromiseTriesModel" (409 : Nat) (65535 : Int32)) ∈ lw_all := lw_g (lw_at lw_m7 62 rfl) rfl
theorem q1597 : (Jvm.Cond.instanceMethod ({ cls := "PromiseTriesModel", name := "run", desc := "(IIII)I" } : Jvm.MethodName)) ∈ lw_all := lw_g (lw_at lw_m7 64 rfl) rfl
theorem q1598 : (Jvm.Cond.selects "PromiseTriesModel" ({ cls := "PromiseTriesModel", name := "run", desc := "(IIII)I" } : Jvm.MethodName) ({ cls := "PromiseTriesModel", name := "run", desc := "(IIII)I" } : Jvm.MethodName)) ∈ lw_all := lw_g (lw_at lw_m7 65 rfl) rfl
theorem q1599 : (Jvm.Cond.code ({ cls := "PromiseTriesModel", name := "run", desc := "(IIII)I" } : Jvm.MethodName) prog_21_method_88_code (8 : Nat) (Option.some Jvm.ClassFile.FieldType.int)) ∈ lw_all := lw_g (lw_at lw_m7 66 rfl) rfl
theorem q1601 : (Jvm.Cond.instanceMethod ({ cls := "PromiseTriesModel", name := "torn", desc := "()I" } : Jvm.MethodName)) ∈ lw_all := lw_g (lw_at lw_m7 68 rfl) rfl
theorem q1602 : (Jvm.Cond.selects "PromiseTriesModel" ({ cls := "PromiseTriesModel", name := "torn", desc := "()I" } : Jvm.MethodName) ({ cls := "PromiseTriesModel", name := "torn", desc := "()I" } : Jvm.MethodName)) ∈ lw_all := lw_g (lw_at lw_m7 69 rfl) rfl
theorem q1603 : (Jvm.Cond.code ({ cls := "PromiseTriesModel", name := "torn", desc := "()I" } : Jvm.MethodName) prog_21_method_89_code (1 : Nat) (Option.some Jvm.ClassFile.FieldType.int)) ∈ lw_all := lw_g (lw_at lw_m7 70 rfl) rfl
theorem q1605 : (Jvm.Cond.instanceMethod ({ cls := "PromiseTriesModel", name := "count", desc := "(I)I" } : Jvm.MethodName)) ∈ lw_all := lw_g (lw_at lw_m7 72 rfl) rfl
theorem q1606 : (Jvm.Cond.selects "PromiseTriesModel" ({ cls := "PromiseTriesModel", name := "count", desc := "(I)I" } : Jvm.MethodName) ({ cls := "PromiseTriesModel", name := "count", desc := "(I)I" } : Jvm.MethodName)) ∈ lw_all := lw_g (lw_at lw_m7 73 rfl) rfl
theorem q1607 : (Jvm.Cond.code ({ cls := "PromiseTriesModel", name := "count", desc := "(I)I" } : Jvm.MethodName) prog_21_method_90_code (2 : Nat) (Option.some Jvm.ClassFile.FieldType.int)) ∈ lw_all := lw_g (lw_at lw_m7 74 rfl) rfl
theorem in_X2 : ∀ w ∈ wsX20, w ∈ lw_all := lw_in wsX20 [1142, 1144, 1146, 1148, 1150, 1152, 1154, 1156, 1158, 1160, 1162, 1164, 1166, 1168, 1170, 1172, 1174, 1176, 1178, 1180, 1182, 1184, 1186, 1188, 1190, 1192, 1194, 1196, 1198, 1200, 1202, 1204, 1206, 1208, 1210, 1212, 1214, 1216, 1218, 1220, 1222, 1224, 1226, 1228, 1230, 1232, 1234, 1236, 1238, 1240, 1242, 1244] (by decide +kernel) (by decide +kernel)
