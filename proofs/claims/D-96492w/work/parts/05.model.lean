/-! InASackToTheRopeModel -/
set_option maxRecDepth 100000
def RX6 : String := "InASackToTheRopeModel"
def TX6 : u_T := fun k => match k with
  | 0 => ("InASackToTheRopeModel", "many", "I", false)
  | 1 => ("InASackToTheRopeModel", "sacks", "I", false)
  | 2 => ("InASackToTheRopeModel", "way", "I", false)
  | 3 => ("InASackToTheRopeModel", "up", "I", false)
  | 4 => ("InASackToTheRopeModel", "rope", "I", false)
  | 5 => ("InASackToTheRopeModel", "wind", "I", false)
  | 6 => ("InASackToTheRopeModel", "rolls", "I", false)
  | 7 => ("InASackToTheRopeModel", "races", "I", false)
  | 8 => ("InASackToTheRopeModel", "seed", "I", false)
  | 9 => ("InASackToTheRopeModel", "fault", "I", false)
  | 10 => ("InASackToTheRopeModel", "refused", "[I", true)
  | 11 => ("InASackToTheRopeModel", "kind", "[I", true)
  | 12 => ("InASackToTheRopeModel", "part", "[I", true)
  | 13 => ("InASackToTheRopeModel", "legs", "[I", true)
  | 14 => ("InASackToTheRopeModel", "sack", "[I", true)
  | 15 => ("InASackToTheRopeModel", "ahead", "[I", true)
  | 16 => ("InASackToTheRopeModel", "won", "[I", true)
  | 17 => ("InASackToTheRopeModel", "length", "[I", true)
  | 18 => ("InASackToTheRopeModel", "holes", "[I", true)
  | 19 => ("InASackToTheRopeModel", "held", "[I", true)
  | 20 => ("InASackToTheRopeModel", "sort", "[I", true)
  | 21 => ("InASackToTheRopeModel", "size", "[I", true)
  | 22 => ("InASackToTheRopeModel", "shown", "[I", true)
  | 23 => ("InASackToTheRopeModel", "cells", "[J", true)
  | 24 => ("InASackToTheRopeModel", "carried", "[J", true)
  | 25 => ("InASackToTheRopeModel", "words", "[I", true)
  | 26 => ("InASackToTheRopeModel", "numbers", "[I", true)
  | 27 => ("InASackToTheRopeModel", "tell", "[I", true)
  | 28 => ("InASackToTheRopeModel", "base", "I", false)
  | 29 => ("InASackToTheRopeModel", "at", "I", false)
  | 30 => ("InASackToTheRopeModel", "end", "I", false)
  | 31 => ("InASackToTheRopeModel", "number", "I", false)
  | 32 => ("InASackToTheRopeModel", "wrongAt", "I", false)
  | 33 => ("InASackToTheRopeModel", "was", "[I", true)
  | 34 => ("InASackToTheRopeModel", "kept", "[I", true)
  | 35 => ("InASackToTheRopeModel", "hopKind", "I", false)
  | 36 => ("InASackToTheRopeModel", "hopPart", "I", false)
  | 37 => ("InASackToTheRopeModel", "hopLegs", "I", false)
  | 38 => ("InASackToTheRopeModel", "hopSlack", "I", false)
  | 39 => ("InASackToTheRopeModel", "hopHoles", "I", false)
  | 40 => ("InASackToTheRopeModel", "hopAhead", "I", false)
  | 41 => ("InASackToTheRopeModel", "hopRolls", "I", false)
  | 42 => ("InASackToTheRopeModel", "place", "I", false)
  | 43 => ("InASackToTheRopeModel", "breath", "I", false)
  | 44 => ("InASackToTheRopeModel", "wobble", "I", false)
  | 45 => ("InASackToTheRopeModel", "down", "I", false)
  | 46 => ("InASackToTheRopeModel", "fell", "I", false)
  | 47 => ("InASackToTheRopeModel", "tables", "[I", true)
  | 48 => ("InASackToTheRopeModel", "gave", "[I", true)
  | 49 => ("InASackToTheRopeModel", "best", "[I", true)
  | 50 => ("InASackToTheRopeModel", "bestIs", "I", false)
  | 51 => ("InASackToTheRopeModel", "on", "[I", true)
  | 52 => ("InASackToTheRopeModel", "places", "[I", true)
  | 53 => ("InASackToTheRopeModel", "breaths", "[I", true)
  | 54 => ("InASackToTheRopeModel", "downs", "[I", true)
  | 55 => ("InASackToTheRopeModel", "ins", "[I", true)
  | 56 => ("InASackToTheRopeModel", "trace", "[I", true)
  | 57 => ("InASackToTheRopeModel", "ran", "I", false)
  | _ => ("InASackToTheRopeModel", "isKept", "Z", false)
def tyX6 : Nat → FieldType := fun k => match k with
  | 0 => .int
  | 1 => .int
  | 2 => .int
  | 3 => .int
  | 4 => .int
  | 5 => .int
  | 6 => .int
  | 7 => .int
  | 8 => .int
  | 9 => .int
  | 10 => .array .int
  | 11 => .array .int
  | 12 => .array .int
  | 13 => .array .int
  | 14 => .array .int
  | 15 => .array .int
  | 16 => .array .int
  | 17 => .array .int
  | 18 => .array .int
  | 19 => .array .int
  | 20 => .array .int
  | 21 => .array .int
  | 22 => .array .int
  | 23 => .array .long
  | 24 => .array .long
  | 25 => .array .int
  | 26 => .array .int
  | 27 => .array .int
  | 28 => .int
  | 29 => .int
  | 30 => .int
  | 31 => .int
  | 32 => .int
  | 33 => .array .int
  | 34 => .array .int
  | 35 => .int
  | 36 => .int
  | 37 => .int
  | 38 => .int
  | 39 => .int
  | 40 => .int
  | 41 => .int
  | 42 => .int
  | 43 => .int
  | 44 => .int
  | 45 => .int
  | 46 => .int
  | 47 => .array .int
  | 48 => .array .int
  | 49 => .array .int
  | 50 => .int
  | 51 => .array .int
  | 52 => .array .int
  | 53 => .array .int
  | 54 => .array .int
  | 55 => .array .int
  | 56 => .array .int
  | 57 => .int
  | _ => .boolean
abbrev wsX60 : List Cond := u_ws RX6 TX6 59
set_option maxRecDepth 100000 in
theorem nmX6 : ∀ a, a < 59 → ∀ b, b < 59 → a ≠ b → (TX6 a).2.1 ≠ (TX6 b).2.1 := by decide +kernel
set_option maxRecDepth 100000 in
theorem tyX6_ok : ∀ k, k < 59 → parseFieldDescriptor (TX6 k).2.2.1 = some (tyX6 k) := by decide +kernel
abbrev cX6_init : ByteArray := prog_23_method_1_code
def yX6_init : MethodName := ⟨RX6, "<init>", "()V"⟩
def dkwX6_init_24 : List UInt8 := [181, 0, 111, 42, 16, 20, 188, 10, 181, 0, 114, 177]
abbrev dktX6_init_24 : List UInt8 := dkwX6_init_24 ++ []
def dkwX6_init_23 : List UInt8 := [181, 0, 102, 42, 16, 8, 188, 10, 181, 0, 105, 42, 16, 8, 188, 10, 181, 0, 108, 42, 16, 8, 188, 10]
abbrev dktX6_init_23 : List UInt8 := dkwX6_init_23 ++ dktX6_init_24
def dkwX6_init_22 : List UInt8 := [181, 0, 93, 42, 8, 188, 10, 181, 0, 96, 42, 16, 8, 188, 10, 181, 0, 99, 42, 16, 8, 188, 10]
abbrev dktX6_init_22 : List UInt8 := dkwX6_init_22 ++ dktX6_init_23
def dkwX6_init_21 : List UInt8 := [181, 0, 84, 42, 16, 80, 188, 10, 181, 0, 87, 42, 16, 40, 188, 10, 181, 0, 90, 42, 8, 188, 10]
abbrev dktX6_init_21 : List UInt8 := dkwX6_init_21 ++ dktX6_init_22
def dkwX6_init_20 : List UInt8 := [16, 6, 4, 79, 89, 16, 7, 4, 79, 181, 0, 78, 42, 6, 188, 10, 181, 0, 81, 42, 16, 80, 188, 10]
abbrev dktX6_init_20 : List UInt8 := dkwX6_init_20 ++ dktX6_init_21
def dkwX6_init_19 : List UInt8 := [6, 79, 89, 4, 5, 79, 89, 5, 5, 79, 89, 6, 5, 79, 89, 7, 4, 79, 89, 8, 4, 79, 89]
abbrev dktX6_init_19 : List UInt8 := dkwX6_init_19 ++ dktX6_init_20
def dkwX6_init_18 : List UInt8 := [16, 100, 79, 89, 16, 46, 16, 32, 79, 89, 16, 47, 3, 79, 181, 0, 75, 42, 16, 8, 188, 10, 89, 3]
abbrev dktX6_init_18 : List UInt8 := dkwX6_init_18 ++ dktX6_init_19
def dkwX6_init_17 : List UInt8 := [3, 79, 89, 16, 42, 16, 119, 79, 89, 16, 43, 16, 105, 79, 89, 16, 44, 16, 110, 79, 89, 16, 45]
abbrev dktX6_init_17 : List UInt8 := dkwX6_init_17 ++ dktX6_init_18
def dkwX6_init_16 : List UInt8 := [16, 111, 79, 89, 16, 38, 16, 112, 79, 89, 16, 39, 16, 101, 79, 89, 16, 40, 16, 32, 79, 89, 16, 41]
abbrev dktX6_init_16 : List UInt8 := dkwX6_init_16 ++ dktX6_init_17
def dkwX6_init_15 : List UInt8 := [16, 112, 79, 89, 16, 34, 16, 32, 79, 89, 16, 35, 3, 79, 89, 16, 36, 16, 114, 79, 89, 16, 37]
abbrev dktX6_init_15 : List UInt8 := dkwX6_init_15 ++ dktX6_init_16
def dkwX6_init_14 : List UInt8 := [16, 121, 79, 89, 16, 30, 16, 32, 79, 89, 16, 31, 3, 79, 89, 16, 32, 16, 117, 79, 89, 16, 33]
abbrev dktX6_init_14 : List UInt8 := dkwX6_init_14 ++ dktX6_init_15
def dkwX6_init_13 : List UInt8 := [16, 32, 79, 89, 16, 26, 3, 79, 89, 16, 27, 16, 119, 79, 89, 16, 28, 16, 97, 79, 89, 16, 29]
abbrev dktX6_init_13 : List UInt8 := dkwX6_init_13 ++ dktX6_init_14
def dkwX6_init_12 : List UInt8 := [16, 104, 79, 89, 16, 22, 16, 101, 79, 89, 16, 23, 16, 97, 79, 89, 16, 24, 16, 100, 79, 89, 16, 25]
abbrev dktX6_init_12 : List UInt8 := dkwX6_init_12 ++ dktX6_init_13
def dkwX6_init_11 : List UInt8 := [16, 115, 79, 89, 16, 18, 16, 32, 79, 89, 16, 19, 3, 79, 89, 16, 20, 16, 97, 79, 89, 16, 21]
abbrev dktX6_init_11 : List UInt8 := dkwX6_init_11 ++ dktX6_init_12
def dkwX6_init_10 : List UInt8 := [16, 119, 79, 89, 16, 14, 16, 101, 79, 89, 16, 15, 16, 97, 79, 89, 16, 16, 16, 114, 79, 89, 16, 17]
abbrev dktX6_init_10 : List UInt8 := dkwX6_init_10 ++ dktX6_init_11
def dkwX6_init_9 : List UInt8 := [16, 99, 79, 89, 16, 10, 16, 107, 79, 89, 16, 11, 16, 32, 79, 89, 16, 12, 3, 79, 89, 16, 13]
abbrev dktX6_init_9 : List UInt8 := dkwX6_init_9 ++ dktX6_init_10
def dkwX6_init_8 : List UInt8 := [8, 16, 32, 79, 89, 16, 6, 3, 79, 89, 16, 7, 16, 115, 79, 89, 16, 8, 16, 97, 79, 89, 16, 9]
abbrev dktX6_init_8 : List UInt8 := dkwX6_init_8 ++ dktX6_init_9
def dkwX6_init_7 : List UInt8 := [16, 99, 79, 89, 4, 16, 104, 79, 89, 5, 16, 105, 79, 89, 6, 16, 108, 79, 89, 7, 16, 100, 79, 89]
abbrev dktX6_init_7 : List UInt8 := dkwX6_init_7 ++ dktX6_init_8
def dkwX6_init_6 : List UInt8 := [17, 5, 0, 188, 11, 181, 0, 68, 42, 17, 0, 160, 188, 11, 181, 0, 72, 42, 16, 48, 188, 10, 89, 3]
abbrev dktX6_init_6 : List UInt8 := dkwX6_init_6 ++ dktX6_init_7
def dkwX6_init_5 : List UInt8 := [188, 10, 181, 0, 59, 42, 16, 8, 188, 10, 181, 0, 62, 42, 16, 8, 188, 10, 181, 0, 65, 42]
abbrev dktX6_init_5 : List UInt8 := dkwX6_init_5 ++ dktX6_init_6
def dkwX6_init_4 : List UInt8 := [188, 10, 181, 0, 50, 42, 16, 8, 188, 10, 181, 0, 53, 42, 16, 8, 188, 10, 181, 0, 56, 42, 16, 8]
abbrev dktX6_init_4 : List UInt8 := dkwX6_init_4 ++ dktX6_init_5
def dkwX6_init_3 : List UInt8 := [188, 10, 181, 0, 41, 42, 16, 8, 188, 10, 181, 0, 44, 42, 16, 8, 188, 10, 181, 0, 47, 42, 16, 8]
abbrev dktX6_init_3 : List UInt8 := dkwX6_init_3 ++ dktX6_init_4
def dkwX6_init_2 : List UInt8 := [188, 10, 181, 0, 32, 42, 16, 8, 188, 10, 181, 0, 35, 42, 16, 8, 188, 10, 181, 0, 38, 42, 16, 8]
abbrev dktX6_init_2 : List UInt8 := dkwX6_init_2 ++ dktX6_init_3
def dkwX6_init_1 : List UInt8 := [181, 0, 19, 42, 4, 181, 0, 22, 42, 2, 181, 0, 25, 42, 16, 8, 188, 10, 181, 0, 28, 42, 16, 8]
abbrev dktX6_init_1 : List UInt8 := dkwX6_init_1 ++ dktX6_init_2
def dkwX6_init_0 : List UInt8 := [42, 183, 0, 1, 42, 16, 40, 181, 0, 7, 42, 8, 181, 0, 13, 42, 6, 181, 0, 16, 42, 16, 20]
abbrev dktX6_init_0 : List UInt8 := dkwX6_init_0 ++ dktX6_init_1
theorem dksX6_init_0 : cX6_init.data.toList.drop 0 = dktX6_init_0 := by decide +kernel
theorem dksX6_init_1 : cX6_init.data.toList.drop 23 = dktX6_init_1 := dk_seg dksX6_init_0 23 rfl rfl
theorem dksX6_init_2 : cX6_init.data.toList.drop 47 = dktX6_init_2 := dk_seg dksX6_init_1 24 rfl rfl
theorem dksX6_init_3 : cX6_init.data.toList.drop 71 = dktX6_init_3 := dk_seg dksX6_init_2 24 rfl rfl
theorem dksX6_init_4 : cX6_init.data.toList.drop 95 = dktX6_init_4 := dk_seg dksX6_init_3 24 rfl rfl
theorem dksX6_init_5 : cX6_init.data.toList.drop 119 = dktX6_init_5 := dk_seg dksX6_init_4 24 rfl rfl
theorem dksX6_init_6 : cX6_init.data.toList.drop 141 = dktX6_init_6 := dk_seg dksX6_init_5 22 rfl rfl
theorem dksX6_init_7 : cX6_init.data.toList.drop 165 = dktX6_init_7 := dk_seg dksX6_init_6 24 rfl rfl
theorem dksX6_init_8 : cX6_init.data.toList.drop 189 = dktX6_init_8 := dk_seg dksX6_init_7 24 rfl rfl
theorem dksX6_init_9 : cX6_init.data.toList.drop 213 = dktX6_init_9 := dk_seg dksX6_init_8 24 rfl rfl
theorem dksX6_init_10 : cX6_init.data.toList.drop 236 = dktX6_init_10 := dk_seg dksX6_init_9 23 rfl rfl
theorem dksX6_init_11 : cX6_init.data.toList.drop 260 = dktX6_init_11 := dk_seg dksX6_init_10 24 rfl rfl
theorem dksX6_init_12 : cX6_init.data.toList.drop 283 = dktX6_init_12 := dk_seg dksX6_init_11 23 rfl rfl
theorem dksX6_init_13 : cX6_init.data.toList.drop 307 = dktX6_init_13 := dk_seg dksX6_init_12 24 rfl rfl
theorem dksX6_init_14 : cX6_init.data.toList.drop 330 = dktX6_init_14 := dk_seg dksX6_init_13 23 rfl rfl
theorem dksX6_init_15 : cX6_init.data.toList.drop 353 = dktX6_init_15 := dk_seg dksX6_init_14 23 rfl rfl
theorem dksX6_init_16 : cX6_init.data.toList.drop 376 = dktX6_init_16 := dk_seg dksX6_init_15 23 rfl rfl
theorem dksX6_init_17 : cX6_init.data.toList.drop 400 = dktX6_init_17 := dk_seg dksX6_init_16 24 rfl rfl
theorem dksX6_init_18 : cX6_init.data.toList.drop 423 = dktX6_init_18 := dk_seg dksX6_init_17 23 rfl rfl
theorem dksX6_init_19 : cX6_init.data.toList.drop 447 = dktX6_init_19 := dk_seg dksX6_init_18 24 rfl rfl
theorem dksX6_init_20 : cX6_init.data.toList.drop 470 = dktX6_init_20 := dk_seg dksX6_init_19 23 rfl rfl
theorem dksX6_init_21 : cX6_init.data.toList.drop 494 = dktX6_init_21 := dk_seg dksX6_init_20 24 rfl rfl
theorem dksX6_init_22 : cX6_init.data.toList.drop 517 = dktX6_init_22 := dk_seg dksX6_init_21 23 rfl rfl
theorem dksX6_init_23 : cX6_init.data.toList.drop 540 = dktX6_init_23 := dk_seg dksX6_init_22 23 rfl rfl
theorem dksX6_init_24 : cX6_init.data.toList.drop 564 = dktX6_init_24 := dk_seg dksX6_init_23 24 rfl rfl
theorem dX6_init_0 : decode cX6_init 0 = .ok (.aload_n 0, 1) := dk_42 (dk_at dksX6_init_0 0 rfl rfl)
theorem dX6_init_1 : decode cX6_init 1 = .ok (.invokespecial 1, 3) := dk_183 0 1 (dk_at dksX6_init_0 1 rfl rfl)
theorem dX6_init_4 : decode cX6_init 4 = .ok (.aload_n 0, 1) := dk_42 (dk_at dksX6_init_0 4 rfl rfl)
theorem dX6_init_5 : decode cX6_init 5 = .ok (.bipush 40, 2) := dk_16 40 (dk_at dksX6_init_0 5 rfl rfl)
theorem dX6_init_7 : decode cX6_init 7 = .ok (.putfield 7, 3) := dk_181 0 7 (dk_at dksX6_init_0 7 rfl rfl)
theorem dX6_init_10 : decode cX6_init 10 = .ok (.aload_n 0, 1) := dk_42 (dk_at dksX6_init_0 10 rfl rfl)
theorem dX6_init_11 : decode cX6_init 11 = .ok (.iconst 5, 1) := dk_8 (dk_at dksX6_init_0 11 rfl rfl)
theorem dX6_init_12 : decode cX6_init 12 = .ok (.putfield 13, 3) := dk_181 0 13 (dk_at dksX6_init_0 12 rfl rfl)
theorem dX6_init_15 : decode cX6_init 15 = .ok (.aload_n 0, 1) := dk_42 (dk_at dksX6_init_0 15 rfl rfl)
theorem dX6_init_16 : decode cX6_init 16 = .ok (.iconst 3, 1) := dk_6 (dk_at dksX6_init_0 16 rfl rfl)
theorem dX6_init_17 : decode cX6_init 17 = .ok (.putfield 16, 3) := dk_181 0 16 (dk_at dksX6_init_0 17 rfl rfl)
theorem dX6_init_20 : decode cX6_init 20 = .ok (.aload_n 0, 1) := dk_42 (dk_at dksX6_init_0 20 rfl rfl)
theorem dX6_init_21 : decode cX6_init 21 = .ok (.bipush 20, 2) := dk_16 20 (dk_at dksX6_init_0 21 rfl rfl)
theorem dX6_init_23 : decode cX6_init 23 = .ok (.putfield 19, 3) := dk_181 0 19 (dk_at dksX6_init_1 0 rfl rfl)
theorem dX6_init_26 : decode cX6_init 26 = .ok (.aload_n 0, 1) := dk_42 (dk_at dksX6_init_1 3 rfl rfl)
theorem dX6_init_27 : decode cX6_init 27 = .ok (.iconst 1, 1) := dk_4 (dk_at dksX6_init_1 4 rfl rfl)
theorem dX6_init_28 : decode cX6_init 28 = .ok (.putfield 22, 3) := dk_181 0 22 (dk_at dksX6_init_1 5 rfl rfl)
theorem dX6_init_31 : decode cX6_init 31 = .ok (.aload_n 0, 1) := dk_42 (dk_at dksX6_init_1 8 rfl rfl)
theorem dX6_init_32 : decode cX6_init 32 = .ok (.iconst (-1), 1) := dk_2 (dk_at dksX6_init_1 9 rfl rfl)
theorem dX6_init_33 : decode cX6_init 33 = .ok (.putfield 25, 3) := dk_181 0 25 (dk_at dksX6_init_1 10 rfl rfl)
theorem dX6_init_36 : decode cX6_init 36 = .ok (.aload_n 0, 1) := dk_42 (dk_at dksX6_init_1 13 rfl rfl)
theorem dX6_init_37 : decode cX6_init 37 = .ok (.bipush 8, 2) := dk_16 8 (dk_at dksX6_init_1 14 rfl rfl)
theorem dX6_init_39 : decode cX6_init 39 = .ok (.newarray .int, 2) := dk_188_10 (dk_at dksX6_init_1 16 rfl rfl)
theorem dX6_init_41 : decode cX6_init 41 = .ok (.putfield 28, 3) := dk_181 0 28 (dk_at dksX6_init_1 18 rfl rfl)
theorem dX6_init_44 : decode cX6_init 44 = .ok (.aload_n 0, 1) := dk_42 (dk_at dksX6_init_1 21 rfl rfl)
theorem dX6_init_45 : decode cX6_init 45 = .ok (.bipush 8, 2) := dk_16 8 (dk_at dksX6_init_1 22 rfl rfl)
theorem dX6_init_47 : decode cX6_init 47 = .ok (.newarray .int, 2) := dk_188_10 (dk_at dksX6_init_2 0 rfl rfl)
theorem dX6_init_49 : decode cX6_init 49 = .ok (.putfield 32, 3) := dk_181 0 32 (dk_at dksX6_init_2 2 rfl rfl)
theorem dX6_init_52 : decode cX6_init 52 = .ok (.aload_n 0, 1) := dk_42 (dk_at dksX6_init_2 5 rfl rfl)
theorem dX6_init_53 : decode cX6_init 53 = .ok (.bipush 8, 2) := dk_16 8 (dk_at dksX6_init_2 6 rfl rfl)
theorem dX6_init_55 : decode cX6_init 55 = .ok (.newarray .int, 2) := dk_188_10 (dk_at dksX6_init_2 8 rfl rfl)
theorem dX6_init_57 : decode cX6_init 57 = .ok (.putfield 35, 3) := dk_181 0 35 (dk_at dksX6_init_2 10 rfl rfl)
theorem dX6_init_60 : decode cX6_init 60 = .ok (.aload_n 0, 1) := dk_42 (dk_at dksX6_init_2 13 rfl rfl)
theorem dX6_init_61 : decode cX6_init 61 = .ok (.bipush 8, 2) := dk_16 8 (dk_at dksX6_init_2 14 rfl rfl)
theorem dX6_init_63 : decode cX6_init 63 = .ok (.newarray .int, 2) := dk_188_10 (dk_at dksX6_init_2 16 rfl rfl)
theorem dX6_init_65 : decode cX6_init 65 = .ok (.putfield 38, 3) := dk_181 0 38 (dk_at dksX6_init_2 18 rfl rfl)
theorem dX6_init_68 : decode cX6_init 68 = .ok (.aload_n 0, 1) := dk_42 (dk_at dksX6_init_2 21 rfl rfl)
theorem dX6_init_69 : decode cX6_init 69 = .ok (.bipush 8, 2) := dk_16 8 (dk_at dksX6_init_2 22 rfl rfl)
theorem dX6_init_71 : decode cX6_init 71 = .ok (.newarray .int, 2) := dk_188_10 (dk_at dksX6_init_3 0 rfl rfl)
theorem dX6_init_73 : decode cX6_init 73 = .ok (.putfield 41, 3) := dk_181 0 41 (dk_at dksX6_init_3 2 rfl rfl)
theorem dX6_init_76 : decode cX6_init 76 = .ok (.aload_n 0, 1) := dk_42 (dk_at dksX6_init_3 5 rfl rfl)
theorem dX6_init_77 : decode cX6_init 77 = .ok (.bipush 8, 2) := dk_16 8 (dk_at dksX6_init_3 6 rfl rfl)
theorem dX6_init_79 : decode cX6_init 79 = .ok (.newarray .int, 2) := dk_188_10 (dk_at dksX6_init_3 8 rfl rfl)
theorem dX6_init_81 : decode cX6_init 81 = .ok (.putfield 44, 3) := dk_181 0 44 (dk_at dksX6_init_3 10 rfl rfl)
theorem dX6_init_84 : decode cX6_init 84 = .ok (.aload_n 0, 1) := dk_42 (dk_at dksX6_init_3 13 rfl rfl)
theorem dX6_init_85 : decode cX6_init 85 = .ok (.bipush 8, 2) := dk_16 8 (dk_at dksX6_init_3 14 rfl rfl)
theorem dX6_init_87 : decode cX6_init 87 = .ok (.newarray .int, 2) := dk_188_10 (dk_at dksX6_init_3 16 rfl rfl)
theorem dX6_init_89 : decode cX6_init 89 = .ok (.putfield 47, 3) := dk_181 0 47 (dk_at dksX6_init_3 18 rfl rfl)
theorem dX6_init_92 : decode cX6_init 92 = .ok (.aload_n 0, 1) := dk_42 (dk_at dksX6_init_3 21 rfl rfl)
theorem dX6_init_93 : decode cX6_init 93 = .ok (.bipush 8, 2) := dk_16 8 (dk_at dksX6_init_3 22 rfl rfl)
theorem dX6_init_95 : decode cX6_init 95 = .ok (.newarray .int, 2) := dk_188_10 (dk_at dksX6_init_4 0 rfl rfl)
theorem dX6_init_97 : decode cX6_init 97 = .ok (.putfield 50, 3) := dk_181 0 50 (dk_at dksX6_init_4 2 rfl rfl)
theorem dX6_init_100 : decode cX6_init 100 = .ok (.aload_n 0, 1) := dk_42 (dk_at dksX6_init_4 5 rfl rfl)
theorem dX6_init_101 : decode cX6_init 101 = .ok (.bipush 8, 2) := dk_16 8 (dk_at dksX6_init_4 6 rfl rfl)
theorem dX6_init_103 : decode cX6_init 103 = .ok (.newarray .int, 2) := dk_188_10 (dk_at dksX6_init_4 8 rfl rfl)
theorem dX6_init_105 : decode cX6_init 105 = .ok (.putfield 53, 3) := dk_181 0 53 (dk_at dksX6_init_4 10 rfl rfl)
theorem dX6_init_108 : decode cX6_init 108 = .ok (.aload_n 0, 1) := dk_42 (dk_at dksX6_init_4 13 rfl rfl)
theorem dX6_init_109 : decode cX6_init 109 = .ok (.bipush 8, 2) := dk_16 8 (dk_at dksX6_init_4 14 rfl rfl)
theorem dX6_init_111 : decode cX6_init 111 = .ok (.newarray .int, 2) := dk_188_10 (dk_at dksX6_init_4 16 rfl rfl)
theorem dX6_init_113 : decode cX6_init 113 = .ok (.putfield 56, 3) := dk_181 0 56 (dk_at dksX6_init_4 18 rfl rfl)
theorem dX6_init_116 : decode cX6_init 116 = .ok (.aload_n 0, 1) := dk_42 (dk_at dksX6_init_4 21 rfl rfl)
theorem dX6_init_117 : decode cX6_init 117 = .ok (.bipush 8, 2) := dk_16 8 (dk_at dksX6_init_4 22 rfl rfl)
theorem dX6_init_119 : decode cX6_init 119 = .ok (.newarray .int, 2) := dk_188_10 (dk_at dksX6_init_5 0 rfl rfl)
theorem dX6_init_121 : decode cX6_init 121 = .ok (.putfield 59, 3) := dk_181 0 59 (dk_at dksX6_init_5 2 rfl rfl)
theorem dX6_init_124 : decode cX6_init 124 = .ok (.aload_n 0, 1) := dk_42 (dk_at dksX6_init_5 5 rfl rfl)
theorem dX6_init_125 : decode cX6_init 125 = .ok (.bipush 8, 2) := dk_16 8 (dk_at dksX6_init_5 6 rfl rfl)
theorem dX6_init_127 : decode cX6_init 127 = .ok (.newarray .int, 2) := dk_188_10 (dk_at dksX6_init_5 8 rfl rfl)
theorem dX6_init_129 : decode cX6_init 129 = .ok (.putfield 62, 3) := dk_181 0 62 (dk_at dksX6_init_5 10 rfl rfl)
theorem dX6_init_132 : decode cX6_init 132 = .ok (.aload_n 0, 1) := dk_42 (dk_at dksX6_init_5 13 rfl rfl)
theorem dX6_init_133 : decode cX6_init 133 = .ok (.bipush 8, 2) := dk_16 8 (dk_at dksX6_init_5 14 rfl rfl)
theorem dX6_init_135 : decode cX6_init 135 = .ok (.newarray .int, 2) := dk_188_10 (dk_at dksX6_init_5 16 rfl rfl)
theorem dX6_init_137 : decode cX6_init 137 = .ok (.putfield 65, 3) := dk_181 0 65 (dk_at dksX6_init_5 18 rfl rfl)
theorem dX6_init_140 : decode cX6_init 140 = .ok (.aload_n 0, 1) := dk_42 (dk_at dksX6_init_5 21 rfl rfl)
theorem dX6_init_141 : decode cX6_init 141 = .ok (.sipush 1280, 3) := dk_17 5 0 (dk_at dksX6_init_6 0 rfl rfl)
theorem dX6_init_144 : decode cX6_init 144 = .ok (.newarray .long, 2) := dk_188_11 (dk_at dksX6_init_6 3 rfl rfl)
theorem dX6_init_146 : decode cX6_init 146 = .ok (.putfield 68, 3) := dk_181 0 68 (dk_at dksX6_init_6 5 rfl rfl)
theorem dX6_init_149 : decode cX6_init 149 = .ok (.aload_n 0, 1) := dk_42 (dk_at dksX6_init_6 8 rfl rfl)
theorem dX6_init_150 : decode cX6_init 150 = .ok (.sipush 160, 3) := dk_17 0 160 (dk_at dksX6_init_6 9 rfl rfl)
theorem dX6_init_153 : decode cX6_init 153 = .ok (.newarray .long, 2) := dk_188_11 (dk_at dksX6_init_6 12 rfl rfl)
theorem dX6_init_155 : decode cX6_init 155 = .ok (.putfield 72, 3) := dk_181 0 72 (dk_at dksX6_init_6 14 rfl rfl)
theorem dX6_init_158 : decode cX6_init 158 = .ok (.aload_n 0, 1) := dk_42 (dk_at dksX6_init_6 17 rfl rfl)
theorem dX6_init_159 : decode cX6_init 159 = .ok (.bipush 48, 2) := dk_16 48 (dk_at dksX6_init_6 18 rfl rfl)
theorem dX6_init_161 : decode cX6_init 161 = .ok (.newarray .int, 2) := dk_188_10 (dk_at dksX6_init_6 20 rfl rfl)
theorem dX6_init_163 : decode cX6_init 163 = .ok (.dup, 1) := dk_89 (dk_at dksX6_init_6 22 rfl rfl)
theorem dX6_init_164 : decode cX6_init 164 = .ok (.iconst 0, 1) := dk_3 (dk_at dksX6_init_6 23 rfl rfl)
theorem dX6_init_165 : decode cX6_init 165 = .ok (.bipush 99, 2) := dk_16 99 (dk_at dksX6_init_7 0 rfl rfl)
theorem dX6_init_167 : decode cX6_init 167 = .ok (.iastore, 1) := dk_79 (dk_at dksX6_init_7 2 rfl rfl)
theorem dX6_init_168 : decode cX6_init 168 = .ok (.dup, 1) := dk_89 (dk_at dksX6_init_7 3 rfl rfl)
theorem dX6_init_169 : decode cX6_init 169 = .ok (.iconst 1, 1) := dk_4 (dk_at dksX6_init_7 4 rfl rfl)
theorem dX6_init_170 : decode cX6_init 170 = .ok (.bipush 104, 2) := dk_16 104 (dk_at dksX6_init_7 5 rfl rfl)
theorem dX6_init_172 : decode cX6_init 172 = .ok (.iastore, 1) := dk_79 (dk_at dksX6_init_7 7 rfl rfl)
theorem dX6_init_173 : decode cX6_init 173 = .ok (.dup, 1) := dk_89 (dk_at dksX6_init_7 8 rfl rfl)
theorem dX6_init_174 : decode cX6_init 174 = .ok (.iconst 2, 1) := dk_5 (dk_at dksX6_init_7 9 rfl rfl)
theorem dX6_init_175 : decode cX6_init 175 = .ok (.bipush 105, 2) := dk_16 105 (dk_at dksX6_init_7 10 rfl rfl)
theorem dX6_init_177 : decode cX6_init 177 = .ok (.iastore, 1) := dk_79 (dk_at dksX6_init_7 12 rfl rfl)
theorem dX6_init_178 : decode cX6_init 178 = .ok (.dup, 1) := dk_89 (dk_at dksX6_init_7 13 rfl rfl)
theorem dX6_init_179 : decode cX6_init 179 = .ok (.iconst 3, 1) := dk_6 (dk_at dksX6_init_7 14 rfl rfl)
theorem dX6_init_180 : decode cX6_init 180 = .ok (.bipush 108, 2) := dk_16 108 (dk_at dksX6_init_7 15 rfl rfl)
theorem dX6_init_182 : decode cX6_init 182 = .ok (.iastore, 1) := dk_79 (dk_at dksX6_init_7 17 rfl rfl)
theorem dX6_init_183 : decode cX6_init 183 = .ok (.dup, 1) := dk_89 (dk_at dksX6_init_7 18 rfl rfl)
theorem dX6_init_184 : decode cX6_init 184 = .ok (.iconst 4, 1) := dk_7 (dk_at dksX6_init_7 19 rfl rfl)
theorem dX6_init_185 : decode cX6_init 185 = .ok (.bipush 100, 2) := dk_16 100 (dk_at dksX6_init_7 20 rfl rfl)
theorem dX6_init_187 : decode cX6_init 187 = .ok (.iastore, 1) := dk_79 (dk_at dksX6_init_7 22 rfl rfl)
theorem dX6_init_188 : decode cX6_init 188 = .ok (.dup, 1) := dk_89 (dk_at dksX6_init_7 23 rfl rfl)
theorem dX6_init_189 : decode cX6_init 189 = .ok (.iconst 5, 1) := dk_8 (dk_at dksX6_init_8 0 rfl rfl)
theorem dX6_init_190 : decode cX6_init 190 = .ok (.bipush 32, 2) := dk_16 32 (dk_at dksX6_init_8 1 rfl rfl)
theorem dX6_init_192 : decode cX6_init 192 = .ok (.iastore, 1) := dk_79 (dk_at dksX6_init_8 3 rfl rfl)
theorem dX6_init_193 : decode cX6_init 193 = .ok (.dup, 1) := dk_89 (dk_at dksX6_init_8 4 rfl rfl)
theorem dX6_init_194 : decode cX6_init 194 = .ok (.bipush 6, 2) := dk_16 6 (dk_at dksX6_init_8 5 rfl rfl)
theorem dX6_init_196 : decode cX6_init 196 = .ok (.iconst 0, 1) := dk_3 (dk_at dksX6_init_8 7 rfl rfl)
theorem dX6_init_197 : decode cX6_init 197 = .ok (.iastore, 1) := dk_79 (dk_at dksX6_init_8 8 rfl rfl)
theorem dX6_init_198 : decode cX6_init 198 = .ok (.dup, 1) := dk_89 (dk_at dksX6_init_8 9 rfl rfl)
theorem dX6_init_199 : decode cX6_init 199 = .ok (.bipush 7, 2) := dk_16 7 (dk_at dksX6_init_8 10 rfl rfl)
theorem dX6_init_201 : decode cX6_init 201 = .ok (.bipush 115, 2) := dk_16 115 (dk_at dksX6_init_8 12 rfl rfl)
theorem dX6_init_203 : decode cX6_init 203 = .ok (.iastore, 1) := dk_79 (dk_at dksX6_init_8 14 rfl rfl)
theorem dX6_init_204 : decode cX6_init 204 = .ok (.dup, 1) := dk_89 (dk_at dksX6_init_8 15 rfl rfl)
theorem dX6_init_205 : decode cX6_init 205 = .ok (.bipush 8, 2) := dk_16 8 (dk_at dksX6_init_8 16 rfl rfl)
theorem dX6_init_207 : decode cX6_init 207 = .ok (.bipush 97, 2) := dk_16 97 (dk_at dksX6_init_8 18 rfl rfl)
theorem dX6_init_209 : decode cX6_init 209 = .ok (.iastore, 1) := dk_79 (dk_at dksX6_init_8 20 rfl rfl)
theorem dX6_init_210 : decode cX6_init 210 = .ok (.dup, 1) := dk_89 (dk_at dksX6_init_8 21 rfl rfl)
theorem dX6_init_211 : decode cX6_init 211 = .ok (.bipush 9, 2) := dk_16 9 (dk_at dksX6_init_8 22 rfl rfl)
theorem dX6_init_213 : decode cX6_init 213 = .ok (.bipush 99, 2) := dk_16 99 (dk_at dksX6_init_9 0 rfl rfl)
theorem dX6_init_215 : decode cX6_init 215 = .ok (.iastore, 1) := dk_79 (dk_at dksX6_init_9 2 rfl rfl)
theorem dX6_init_216 : decode cX6_init 216 = .ok (.dup, 1) := dk_89 (dk_at dksX6_init_9 3 rfl rfl)
theorem dX6_init_217 : decode cX6_init 217 = .ok (.bipush 10, 2) := dk_16 10 (dk_at dksX6_init_9 4 rfl rfl)
theorem dX6_init_219 : decode cX6_init 219 = .ok (.bipush 107, 2) := dk_16 107 (dk_at dksX6_init_9 6 rfl rfl)
theorem dX6_init_221 : decode cX6_init 221 = .ok (.iastore, 1) := dk_79 (dk_at dksX6_init_9 8 rfl rfl)
theorem dX6_init_222 : decode cX6_init 222 = .ok (.dup, 1) := dk_89 (dk_at dksX6_init_9 9 rfl rfl)
theorem dX6_init_223 : decode cX6_init 223 = .ok (.bipush 11, 2) := dk_16 11 (dk_at dksX6_init_9 10 rfl rfl)
theorem dX6_init_225 : decode cX6_init 225 = .ok (.bipush 32, 2) := dk_16 32 (dk_at dksX6_init_9 12 rfl rfl)
theorem dX6_init_227 : decode cX6_init 227 = .ok (.iastore, 1) := dk_79 (dk_at dksX6_init_9 14 rfl rfl)
theorem dX6_init_228 : decode cX6_init 228 = .ok (.dup, 1) := dk_89 (dk_at dksX6_init_9 15 rfl rfl)
theorem dX6_init_229 : decode cX6_init 229 = .ok (.bipush 12, 2) := dk_16 12 (dk_at dksX6_init_9 16 rfl rfl)
theorem dX6_init_231 : decode cX6_init 231 = .ok (.iconst 0, 1) := dk_3 (dk_at dksX6_init_9 18 rfl rfl)
theorem dX6_init_232 : decode cX6_init 232 = .ok (.iastore, 1) := dk_79 (dk_at dksX6_init_9 19 rfl rfl)
theorem dX6_init_233 : decode cX6_init 233 = .ok (.dup, 1) := dk_89 (dk_at dksX6_init_9 20 rfl rfl)
theorem dX6_init_234 : decode cX6_init 234 = .ok (.bipush 13, 2) := dk_16 13 (dk_at dksX6_init_9 21 rfl rfl)
theorem dX6_init_236 : decode cX6_init 236 = .ok (.bipush 119, 2) := dk_16 119 (dk_at dksX6_init_10 0 rfl rfl)
theorem dX6_init_238 : decode cX6_init 238 = .ok (.iastore, 1) := dk_79 (dk_at dksX6_init_10 2 rfl rfl)
theorem dX6_init_239 : decode cX6_init 239 = .ok (.dup, 1) := dk_89 (dk_at dksX6_init_10 3 rfl rfl)
theorem dX6_init_240 : decode cX6_init 240 = .ok (.bipush 14, 2) := dk_16 14 (dk_at dksX6_init_10 4 rfl rfl)
theorem dX6_init_242 : decode cX6_init 242 = .ok (.bipush 101, 2) := dk_16 101 (dk_at dksX6_init_10 6 rfl rfl)
theorem dX6_init_244 : decode cX6_init 244 = .ok (.iastore, 1) := dk_79 (dk_at dksX6_init_10 8 rfl rfl)
theorem dX6_init_245 : decode cX6_init 245 = .ok (.dup, 1) := dk_89 (dk_at dksX6_init_10 9 rfl rfl)
theorem dX6_init_246 : decode cX6_init 246 = .ok (.bipush 15, 2) := dk_16 15 (dk_at dksX6_init_10 10 rfl rfl)
theorem dX6_init_248 : decode cX6_init 248 = .ok (.bipush 97, 2) := dk_16 97 (dk_at dksX6_init_10 12 rfl rfl)
theorem dX6_init_250 : decode cX6_init 250 = .ok (.iastore, 1) := dk_79 (dk_at dksX6_init_10 14 rfl rfl)
theorem dX6_init_251 : decode cX6_init 251 = .ok (.dup, 1) := dk_89 (dk_at dksX6_init_10 15 rfl rfl)
theorem dX6_init_252 : decode cX6_init 252 = .ok (.bipush 16, 2) := dk_16 16 (dk_at dksX6_init_10 16 rfl rfl)
theorem dX6_init_254 : decode cX6_init 254 = .ok (.bipush 114, 2) := dk_16 114 (dk_at dksX6_init_10 18 rfl rfl)
theorem dX6_init_256 : decode cX6_init 256 = .ok (.iastore, 1) := dk_79 (dk_at dksX6_init_10 20 rfl rfl)
theorem dX6_init_257 : decode cX6_init 257 = .ok (.dup, 1) := dk_89 (dk_at dksX6_init_10 21 rfl rfl)
theorem dX6_init_258 : decode cX6_init 258 = .ok (.bipush 17, 2) := dk_16 17 (dk_at dksX6_init_10 22 rfl rfl)
theorem dX6_init_260 : decode cX6_init 260 = .ok (.bipush 115, 2) := dk_16 115 (dk_at dksX6_init_11 0 rfl rfl)
theorem dX6_init_262 : decode cX6_init 262 = .ok (.iastore, 1) := dk_79 (dk_at dksX6_init_11 2 rfl rfl)
theorem dX6_init_263 : decode cX6_init 263 = .ok (.dup, 1) := dk_89 (dk_at dksX6_init_11 3 rfl rfl)
theorem dX6_init_264 : decode cX6_init 264 = .ok (.bipush 18, 2) := dk_16 18 (dk_at dksX6_init_11 4 rfl rfl)
theorem dX6_init_266 : decode cX6_init 266 = .ok (.bipush 32, 2) := dk_16 32 (dk_at dksX6_init_11 6 rfl rfl)
theorem dX6_init_268 : decode cX6_init 268 = .ok (.iastore, 1) := dk_79 (dk_at dksX6_init_11 8 rfl rfl)
theorem dX6_init_269 : decode cX6_init 269 = .ok (.dup, 1) := dk_89 (dk_at dksX6_init_11 9 rfl rfl)
theorem dX6_init_270 : decode cX6_init 270 = .ok (.bipush 19, 2) := dk_16 19 (dk_at dksX6_init_11 10 rfl rfl)
theorem dX6_init_272 : decode cX6_init 272 = .ok (.iconst 0, 1) := dk_3 (dk_at dksX6_init_11 12 rfl rfl)
theorem dX6_init_273 : decode cX6_init 273 = .ok (.iastore, 1) := dk_79 (dk_at dksX6_init_11 13 rfl rfl)
theorem dX6_init_274 : decode cX6_init 274 = .ok (.dup, 1) := dk_89 (dk_at dksX6_init_11 14 rfl rfl)
theorem dX6_init_275 : decode cX6_init 275 = .ok (.bipush 20, 2) := dk_16 20 (dk_at dksX6_init_11 15 rfl rfl)
theorem dX6_init_277 : decode cX6_init 277 = .ok (.bipush 97, 2) := dk_16 97 (dk_at dksX6_init_11 17 rfl rfl)
theorem dX6_init_279 : decode cX6_init 279 = .ok (.iastore, 1) := dk_79 (dk_at dksX6_init_11 19 rfl rfl)
theorem dX6_init_280 : decode cX6_init 280 = .ok (.dup, 1) := dk_89 (dk_at dksX6_init_11 20 rfl rfl)
theorem dX6_init_281 : decode cX6_init 281 = .ok (.bipush 21, 2) := dk_16 21 (dk_at dksX6_init_11 21 rfl rfl)
theorem dX6_init_283 : decode cX6_init 283 = .ok (.bipush 104, 2) := dk_16 104 (dk_at dksX6_init_12 0 rfl rfl)
theorem dX6_init_285 : decode cX6_init 285 = .ok (.iastore, 1) := dk_79 (dk_at dksX6_init_12 2 rfl rfl)
theorem dX6_init_286 : decode cX6_init 286 = .ok (.dup, 1) := dk_89 (dk_at dksX6_init_12 3 rfl rfl)
theorem dX6_init_287 : decode cX6_init 287 = .ok (.bipush 22, 2) := dk_16 22 (dk_at dksX6_init_12 4 rfl rfl)
theorem dX6_init_289 : decode cX6_init 289 = .ok (.bipush 101, 2) := dk_16 101 (dk_at dksX6_init_12 6 rfl rfl)
theorem dX6_init_291 : decode cX6_init 291 = .ok (.iastore, 1) := dk_79 (dk_at dksX6_init_12 8 rfl rfl)
theorem dX6_init_292 : decode cX6_init 292 = .ok (.dup, 1) := dk_89 (dk_at dksX6_init_12 9 rfl rfl)
theorem dX6_init_293 : decode cX6_init 293 = .ok (.bipush 23, 2) := dk_16 23 (dk_at dksX6_init_12 10 rfl rfl)
theorem dX6_init_295 : decode cX6_init 295 = .ok (.bipush 97, 2) := dk_16 97 (dk_at dksX6_init_12 12 rfl rfl)
theorem dX6_init_297 : decode cX6_init 297 = .ok (.iastore, 1) := dk_79 (dk_at dksX6_init_12 14 rfl rfl)
theorem dX6_init_298 : decode cX6_init 298 = .ok (.dup, 1) := dk_89 (dk_at dksX6_init_12 15 rfl rfl)
theorem dX6_init_299 : decode cX6_init 299 = .ok (.bipush 24, 2) := dk_16 24 (dk_at dksX6_init_12 16 rfl rfl)
theorem dX6_init_301 : decode cX6_init 301 = .ok (.bipush 100, 2) := dk_16 100 (dk_at dksX6_init_12 18 rfl rfl)
theorem dX6_init_303 : decode cX6_init 303 = .ok (.iastore, 1) := dk_79 (dk_at dksX6_init_12 20 rfl rfl)
theorem dX6_init_304 : decode cX6_init 304 = .ok (.dup, 1) := dk_89 (dk_at dksX6_init_12 21 rfl rfl)
theorem dX6_init_305 : decode cX6_init 305 = .ok (.bipush 25, 2) := dk_16 25 (dk_at dksX6_init_12 22 rfl rfl)
theorem dX6_init_307 : decode cX6_init 307 = .ok (.bipush 32, 2) := dk_16 32 (dk_at dksX6_init_13 0 rfl rfl)
theorem dX6_init_309 : decode cX6_init 309 = .ok (.iastore, 1) := dk_79 (dk_at dksX6_init_13 2 rfl rfl)
theorem dX6_init_310 : decode cX6_init 310 = .ok (.dup, 1) := dk_89 (dk_at dksX6_init_13 3 rfl rfl)
theorem dX6_init_311 : decode cX6_init 311 = .ok (.bipush 26, 2) := dk_16 26 (dk_at dksX6_init_13 4 rfl rfl)
theorem dX6_init_313 : decode cX6_init 313 = .ok (.iconst 0, 1) := dk_3 (dk_at dksX6_init_13 6 rfl rfl)
theorem dX6_init_314 : decode cX6_init 314 = .ok (.iastore, 1) := dk_79 (dk_at dksX6_init_13 7 rfl rfl)
theorem dX6_init_315 : decode cX6_init 315 = .ok (.dup, 1) := dk_89 (dk_at dksX6_init_13 8 rfl rfl)
theorem dX6_init_316 : decode cX6_init 316 = .ok (.bipush 27, 2) := dk_16 27 (dk_at dksX6_init_13 9 rfl rfl)
theorem dX6_init_318 : decode cX6_init 318 = .ok (.bipush 119, 2) := dk_16 119 (dk_at dksX6_init_13 11 rfl rfl)
theorem dX6_init_320 : decode cX6_init 320 = .ok (.iastore, 1) := dk_79 (dk_at dksX6_init_13 13 rfl rfl)
theorem dX6_init_321 : decode cX6_init 321 = .ok (.dup, 1) := dk_89 (dk_at dksX6_init_13 14 rfl rfl)
theorem dX6_init_322 : decode cX6_init 322 = .ok (.bipush 28, 2) := dk_16 28 (dk_at dksX6_init_13 15 rfl rfl)
theorem dX6_init_324 : decode cX6_init 324 = .ok (.bipush 97, 2) := dk_16 97 (dk_at dksX6_init_13 17 rfl rfl)
theorem dX6_init_326 : decode cX6_init 326 = .ok (.iastore, 1) := dk_79 (dk_at dksX6_init_13 19 rfl rfl)
theorem dX6_init_327 : decode cX6_init 327 = .ok (.dup, 1) := dk_89 (dk_at dksX6_init_13 20 rfl rfl)
theorem dX6_init_328 : decode cX6_init 328 = .ok (.bipush 29, 2) := dk_16 29 (dk_at dksX6_init_13 21 rfl rfl)
theorem dX6_init_330 : decode cX6_init 330 = .ok (.bipush 121, 2) := dk_16 121 (dk_at dksX6_init_14 0 rfl rfl)
theorem dX6_init_332 : decode cX6_init 332 = .ok (.iastore, 1) := dk_79 (dk_at dksX6_init_14 2 rfl rfl)
theorem dX6_init_333 : decode cX6_init 333 = .ok (.dup, 1) := dk_89 (dk_at dksX6_init_14 3 rfl rfl)
theorem dX6_init_334 : decode cX6_init 334 = .ok (.bipush 30, 2) := dk_16 30 (dk_at dksX6_init_14 4 rfl rfl)
theorem dX6_init_336 : decode cX6_init 336 = .ok (.bipush 32, 2) := dk_16 32 (dk_at dksX6_init_14 6 rfl rfl)
theorem dX6_init_338 : decode cX6_init 338 = .ok (.iastore, 1) := dk_79 (dk_at dksX6_init_14 8 rfl rfl)
theorem dX6_init_339 : decode cX6_init 339 = .ok (.dup, 1) := dk_89 (dk_at dksX6_init_14 9 rfl rfl)
theorem dX6_init_340 : decode cX6_init 340 = .ok (.bipush 31, 2) := dk_16 31 (dk_at dksX6_init_14 10 rfl rfl)
theorem dX6_init_342 : decode cX6_init 342 = .ok (.iconst 0, 1) := dk_3 (dk_at dksX6_init_14 12 rfl rfl)
theorem dX6_init_343 : decode cX6_init 343 = .ok (.iastore, 1) := dk_79 (dk_at dksX6_init_14 13 rfl rfl)
theorem dX6_init_344 : decode cX6_init 344 = .ok (.dup, 1) := dk_89 (dk_at dksX6_init_14 14 rfl rfl)
theorem dX6_init_345 : decode cX6_init 345 = .ok (.bipush 32, 2) := dk_16 32 (dk_at dksX6_init_14 15 rfl rfl)
theorem dX6_init_347 : decode cX6_init 347 = .ok (.bipush 117, 2) := dk_16 117 (dk_at dksX6_init_14 17 rfl rfl)
theorem dX6_init_349 : decode cX6_init 349 = .ok (.iastore, 1) := dk_79 (dk_at dksX6_init_14 19 rfl rfl)
theorem dX6_init_350 : decode cX6_init 350 = .ok (.dup, 1) := dk_89 (dk_at dksX6_init_14 20 rfl rfl)
theorem dX6_init_351 : decode cX6_init 351 = .ok (.bipush 33, 2) := dk_16 33 (dk_at dksX6_init_14 21 rfl rfl)
theorem dX6_init_353 : decode cX6_init 353 = .ok (.bipush 112, 2) := dk_16 112 (dk_at dksX6_init_15 0 rfl rfl)
theorem dX6_init_355 : decode cX6_init 355 = .ok (.iastore, 1) := dk_79 (dk_at dksX6_init_15 2 rfl rfl)
theorem dX6_init_356 : decode cX6_init 356 = .ok (.dup, 1) := dk_89 (dk_at dksX6_init_15 3 rfl rfl)
theorem dX6_init_357 : decode cX6_init 357 = .ok (.bipush 34, 2) := dk_16 34 (dk_at dksX6_init_15 4 rfl rfl)
theorem dX6_init_359 : decode cX6_init 359 = .ok (.bipush 32, 2) := dk_16 32 (dk_at dksX6_init_15 6 rfl rfl)
theorem dX6_init_361 : decode cX6_init 361 = .ok (.iastore, 1) := dk_79 (dk_at dksX6_init_15 8 rfl rfl)
theorem dX6_init_362 : decode cX6_init 362 = .ok (.dup, 1) := dk_89 (dk_at dksX6_init_15 9 rfl rfl)
theorem dX6_init_363 : decode cX6_init 363 = .ok (.bipush 35, 2) := dk_16 35 (dk_at dksX6_init_15 10 rfl rfl)
theorem dX6_init_365 : decode cX6_init 365 = .ok (.iconst 0, 1) := dk_3 (dk_at dksX6_init_15 12 rfl rfl)
theorem dX6_init_366 : decode cX6_init 366 = .ok (.iastore, 1) := dk_79 (dk_at dksX6_init_15 13 rfl rfl)
theorem dX6_init_367 : decode cX6_init 367 = .ok (.dup, 1) := dk_89 (dk_at dksX6_init_15 14 rfl rfl)
theorem dX6_init_368 : decode cX6_init 368 = .ok (.bipush 36, 2) := dk_16 36 (dk_at dksX6_init_15 15 rfl rfl)
theorem dX6_init_370 : decode cX6_init 370 = .ok (.bipush 114, 2) := dk_16 114 (dk_at dksX6_init_15 17 rfl rfl)
theorem dX6_init_372 : decode cX6_init 372 = .ok (.iastore, 1) := dk_79 (dk_at dksX6_init_15 19 rfl rfl)
theorem dX6_init_373 : decode cX6_init 373 = .ok (.dup, 1) := dk_89 (dk_at dksX6_init_15 20 rfl rfl)
theorem dX6_init_374 : decode cX6_init 374 = .ok (.bipush 37, 2) := dk_16 37 (dk_at dksX6_init_15 21 rfl rfl)
theorem dX6_init_376 : decode cX6_init 376 = .ok (.bipush 111, 2) := dk_16 111 (dk_at dksX6_init_16 0 rfl rfl)
theorem dX6_init_378 : decode cX6_init 378 = .ok (.iastore, 1) := dk_79 (dk_at dksX6_init_16 2 rfl rfl)
theorem dX6_init_379 : decode cX6_init 379 = .ok (.dup, 1) := dk_89 (dk_at dksX6_init_16 3 rfl rfl)
theorem dX6_init_380 : decode cX6_init 380 = .ok (.bipush 38, 2) := dk_16 38 (dk_at dksX6_init_16 4 rfl rfl)
theorem dX6_init_382 : decode cX6_init 382 = .ok (.bipush 112, 2) := dk_16 112 (dk_at dksX6_init_16 6 rfl rfl)
theorem dX6_init_384 : decode cX6_init 384 = .ok (.iastore, 1) := dk_79 (dk_at dksX6_init_16 8 rfl rfl)
theorem dX6_init_385 : decode cX6_init 385 = .ok (.dup, 1) := dk_89 (dk_at dksX6_init_16 9 rfl rfl)
theorem dX6_init_386 : decode cX6_init 386 = .ok (.bipush 39, 2) := dk_16 39 (dk_at dksX6_init_16 10 rfl rfl)
theorem dX6_init_388 : decode cX6_init 388 = .ok (.bipush 101, 2) := dk_16 101 (dk_at dksX6_init_16 12 rfl rfl)
theorem dX6_init_390 : decode cX6_init 390 = .ok (.iastore, 1) := dk_79 (dk_at dksX6_init_16 14 rfl rfl)
theorem dX6_init_391 : decode cX6_init 391 = .ok (.dup, 1) := dk_89 (dk_at dksX6_init_16 15 rfl rfl)
theorem dX6_init_392 : decode cX6_init 392 = .ok (.bipush 40, 2) := dk_16 40 (dk_at dksX6_init_16 16 rfl rfl)
theorem dX6_init_394 : decode cX6_init 394 = .ok (.bipush 32, 2) := dk_16 32 (dk_at dksX6_init_16 18 rfl rfl)
theorem dX6_init_396 : decode cX6_init 396 = .ok (.iastore, 1) := dk_79 (dk_at dksX6_init_16 20 rfl rfl)
theorem dX6_init_397 : decode cX6_init 397 = .ok (.dup, 1) := dk_89 (dk_at dksX6_init_16 21 rfl rfl)
theorem dX6_init_398 : decode cX6_init 398 = .ok (.bipush 41, 2) := dk_16 41 (dk_at dksX6_init_16 22 rfl rfl)
theorem dX6_init_400 : decode cX6_init 400 = .ok (.iconst 0, 1) := dk_3 (dk_at dksX6_init_17 0 rfl rfl)
theorem dX6_init_401 : decode cX6_init 401 = .ok (.iastore, 1) := dk_79 (dk_at dksX6_init_17 1 rfl rfl)
theorem dX6_init_402 : decode cX6_init 402 = .ok (.dup, 1) := dk_89 (dk_at dksX6_init_17 2 rfl rfl)
theorem dX6_init_403 : decode cX6_init 403 = .ok (.bipush 42, 2) := dk_16 42 (dk_at dksX6_init_17 3 rfl rfl)
theorem dX6_init_405 : decode cX6_init 405 = .ok (.bipush 119, 2) := dk_16 119 (dk_at dksX6_init_17 5 rfl rfl)
theorem dX6_init_407 : decode cX6_init 407 = .ok (.iastore, 1) := dk_79 (dk_at dksX6_init_17 7 rfl rfl)
theorem dX6_init_408 : decode cX6_init 408 = .ok (.dup, 1) := dk_89 (dk_at dksX6_init_17 8 rfl rfl)
theorem dX6_init_409 : decode cX6_init 409 = .ok (.bipush 43, 2) := dk_16 43 (dk_at dksX6_init_17 9 rfl rfl)
theorem dX6_init_411 : decode cX6_init 411 = .ok (.bipush 105, 2) := dk_16 105 (dk_at dksX6_init_17 11 rfl rfl)
theorem dX6_init_413 : decode cX6_init 413 = .ok (.iastore, 1) := dk_79 (dk_at dksX6_init_17 13 rfl rfl)
theorem dX6_init_414 : decode cX6_init 414 = .ok (.dup, 1) := dk_89 (dk_at dksX6_init_17 14 rfl rfl)
theorem dX6_init_415 : decode cX6_init 415 = .ok (.bipush 44, 2) := dk_16 44 (dk_at dksX6_init_17 15 rfl rfl)
theorem dX6_init_417 : decode cX6_init 417 = .ok (.bipush 110, 2) := dk_16 110 (dk_at dksX6_init_17 17 rfl rfl)
theorem dX6_init_419 : decode cX6_init 419 = .ok (.iastore, 1) := dk_79 (dk_at dksX6_init_17 19 rfl rfl)
theorem dX6_init_420 : decode cX6_init 420 = .ok (.dup, 1) := dk_89 (dk_at dksX6_init_17 20 rfl rfl)
theorem dX6_init_421 : decode cX6_init 421 = .ok (.bipush 45, 2) := dk_16 45 (dk_at dksX6_init_17 21 rfl rfl)
theorem dX6_init_423 : decode cX6_init 423 = .ok (.bipush 100, 2) := dk_16 100 (dk_at dksX6_init_18 0 rfl rfl)
theorem dX6_init_425 : decode cX6_init 425 = .ok (.iastore, 1) := dk_79 (dk_at dksX6_init_18 2 rfl rfl)
theorem dX6_init_426 : decode cX6_init 426 = .ok (.dup, 1) := dk_89 (dk_at dksX6_init_18 3 rfl rfl)
theorem dX6_init_427 : decode cX6_init 427 = .ok (.bipush 46, 2) := dk_16 46 (dk_at dksX6_init_18 4 rfl rfl)
theorem dX6_init_429 : decode cX6_init 429 = .ok (.bipush 32, 2) := dk_16 32 (dk_at dksX6_init_18 6 rfl rfl)
theorem dX6_init_431 : decode cX6_init 431 = .ok (.iastore, 1) := dk_79 (dk_at dksX6_init_18 8 rfl rfl)
theorem dX6_init_432 : decode cX6_init 432 = .ok (.dup, 1) := dk_89 (dk_at dksX6_init_18 9 rfl rfl)
theorem dX6_init_433 : decode cX6_init 433 = .ok (.bipush 47, 2) := dk_16 47 (dk_at dksX6_init_18 10 rfl rfl)
theorem dX6_init_435 : decode cX6_init 435 = .ok (.iconst 0, 1) := dk_3 (dk_at dksX6_init_18 12 rfl rfl)
theorem dX6_init_436 : decode cX6_init 436 = .ok (.iastore, 1) := dk_79 (dk_at dksX6_init_18 13 rfl rfl)
theorem dX6_init_437 : decode cX6_init 437 = .ok (.putfield 75, 3) := dk_181 0 75 (dk_at dksX6_init_18 14 rfl rfl)
theorem dX6_init_440 : decode cX6_init 440 = .ok (.aload_n 0, 1) := dk_42 (dk_at dksX6_init_18 17 rfl rfl)
theorem dX6_init_441 : decode cX6_init 441 = .ok (.bipush 8, 2) := dk_16 8 (dk_at dksX6_init_18 18 rfl rfl)
theorem dX6_init_443 : decode cX6_init 443 = .ok (.newarray .int, 2) := dk_188_10 (dk_at dksX6_init_18 20 rfl rfl)
theorem dX6_init_445 : decode cX6_init 445 = .ok (.dup, 1) := dk_89 (dk_at dksX6_init_18 22 rfl rfl)
theorem dX6_init_446 : decode cX6_init 446 = .ok (.iconst 0, 1) := dk_3 (dk_at dksX6_init_18 23 rfl rfl)
theorem dX6_init_447 : decode cX6_init 447 = .ok (.iconst 3, 1) := dk_6 (dk_at dksX6_init_19 0 rfl rfl)
theorem dX6_init_448 : decode cX6_init 448 = .ok (.iastore, 1) := dk_79 (dk_at dksX6_init_19 1 rfl rfl)
theorem dX6_init_449 : decode cX6_init 449 = .ok (.dup, 1) := dk_89 (dk_at dksX6_init_19 2 rfl rfl)
theorem dX6_init_450 : decode cX6_init 450 = .ok (.iconst 1, 1) := dk_4 (dk_at dksX6_init_19 3 rfl rfl)
theorem dX6_init_451 : decode cX6_init 451 = .ok (.iconst 2, 1) := dk_5 (dk_at dksX6_init_19 4 rfl rfl)
theorem dX6_init_452 : decode cX6_init 452 = .ok (.iastore, 1) := dk_79 (dk_at dksX6_init_19 5 rfl rfl)
theorem dX6_init_453 : decode cX6_init 453 = .ok (.dup, 1) := dk_89 (dk_at dksX6_init_19 6 rfl rfl)
theorem dX6_init_454 : decode cX6_init 454 = .ok (.iconst 2, 1) := dk_5 (dk_at dksX6_init_19 7 rfl rfl)
theorem dX6_init_455 : decode cX6_init 455 = .ok (.iconst 2, 1) := dk_5 (dk_at dksX6_init_19 8 rfl rfl)
theorem dX6_init_456 : decode cX6_init 456 = .ok (.iastore, 1) := dk_79 (dk_at dksX6_init_19 9 rfl rfl)
theorem dX6_init_457 : decode cX6_init 457 = .ok (.dup, 1) := dk_89 (dk_at dksX6_init_19 10 rfl rfl)
theorem dX6_init_458 : decode cX6_init 458 = .ok (.iconst 3, 1) := dk_6 (dk_at dksX6_init_19 11 rfl rfl)
theorem dX6_init_459 : decode cX6_init 459 = .ok (.iconst 2, 1) := dk_5 (dk_at dksX6_init_19 12 rfl rfl)
theorem dX6_init_460 : decode cX6_init 460 = .ok (.iastore, 1) := dk_79 (dk_at dksX6_init_19 13 rfl rfl)
theorem dX6_init_461 : decode cX6_init 461 = .ok (.dup, 1) := dk_89 (dk_at dksX6_init_19 14 rfl rfl)
theorem dX6_init_462 : decode cX6_init 462 = .ok (.iconst 4, 1) := dk_7 (dk_at dksX6_init_19 15 rfl rfl)
theorem dX6_init_463 : decode cX6_init 463 = .ok (.iconst 1, 1) := dk_4 (dk_at dksX6_init_19 16 rfl rfl)
theorem dX6_init_464 : decode cX6_init 464 = .ok (.iastore, 1) := dk_79 (dk_at dksX6_init_19 17 rfl rfl)
theorem dX6_init_465 : decode cX6_init 465 = .ok (.dup, 1) := dk_89 (dk_at dksX6_init_19 18 rfl rfl)
theorem dX6_init_466 : decode cX6_init 466 = .ok (.iconst 5, 1) := dk_8 (dk_at dksX6_init_19 19 rfl rfl)
theorem dX6_init_467 : decode cX6_init 467 = .ok (.iconst 1, 1) := dk_4 (dk_at dksX6_init_19 20 rfl rfl)
theorem dX6_init_468 : decode cX6_init 468 = .ok (.iastore, 1) := dk_79 (dk_at dksX6_init_19 21 rfl rfl)
theorem dX6_init_469 : decode cX6_init 469 = .ok (.dup, 1) := dk_89 (dk_at dksX6_init_19 22 rfl rfl)
theorem dX6_init_470 : decode cX6_init 470 = .ok (.bipush 6, 2) := dk_16 6 (dk_at dksX6_init_20 0 rfl rfl)
theorem dX6_init_472 : decode cX6_init 472 = .ok (.iconst 1, 1) := dk_4 (dk_at dksX6_init_20 2 rfl rfl)
theorem dX6_init_473 : decode cX6_init 473 = .ok (.iastore, 1) := dk_79 (dk_at dksX6_init_20 3 rfl rfl)
theorem dX6_init_474 : decode cX6_init 474 = .ok (.dup, 1) := dk_89 (dk_at dksX6_init_20 4 rfl rfl)
theorem dX6_init_475 : decode cX6_init 475 = .ok (.bipush 7, 2) := dk_16 7 (dk_at dksX6_init_20 5 rfl rfl)
theorem dX6_init_477 : decode cX6_init 477 = .ok (.iconst 1, 1) := dk_4 (dk_at dksX6_init_20 7 rfl rfl)
theorem dX6_init_478 : decode cX6_init 478 = .ok (.iastore, 1) := dk_79 (dk_at dksX6_init_20 8 rfl rfl)
theorem dX6_init_479 : decode cX6_init 479 = .ok (.putfield 78, 3) := dk_181 0 78 (dk_at dksX6_init_20 9 rfl rfl)
theorem dX6_init_482 : decode cX6_init 482 = .ok (.aload_n 0, 1) := dk_42 (dk_at dksX6_init_20 12 rfl rfl)
theorem dX6_init_483 : decode cX6_init 483 = .ok (.iconst 3, 1) := dk_6 (dk_at dksX6_init_20 13 rfl rfl)
theorem dX6_init_484 : decode cX6_init 484 = .ok (.newarray .int, 2) := dk_188_10 (dk_at dksX6_init_20 14 rfl rfl)
theorem dX6_init_486 : decode cX6_init 486 = .ok (.putfield 81, 3) := dk_181 0 81 (dk_at dksX6_init_20 16 rfl rfl)
theorem dX6_init_489 : decode cX6_init 489 = .ok (.aload_n 0, 1) := dk_42 (dk_at dksX6_init_20 19 rfl rfl)
theorem dX6_init_490 : decode cX6_init 490 = .ok (.bipush 80, 2) := dk_16 80 (dk_at dksX6_init_20 20 rfl rfl)
theorem dX6_init_492 : decode cX6_init 492 = .ok (.newarray .int, 2) := dk_188_10 (dk_at dksX6_init_20 22 rfl rfl)
theorem dX6_init_494 : decode cX6_init 494 = .ok (.putfield 84, 3) := dk_181 0 84 (dk_at dksX6_init_21 0 rfl rfl)
theorem dX6_init_497 : decode cX6_init 497 = .ok (.aload_n 0, 1) := dk_42 (dk_at dksX6_init_21 3 rfl rfl)
theorem dX6_init_498 : decode cX6_init 498 = .ok (.bipush 80, 2) := dk_16 80 (dk_at dksX6_init_21 4 rfl rfl)
theorem dX6_init_500 : decode cX6_init 500 = .ok (.newarray .int, 2) := dk_188_10 (dk_at dksX6_init_21 6 rfl rfl)
theorem dX6_init_502 : decode cX6_init 502 = .ok (.putfield 87, 3) := dk_181 0 87 (dk_at dksX6_init_21 8 rfl rfl)
theorem dX6_init_505 : decode cX6_init 505 = .ok (.aload_n 0, 1) := dk_42 (dk_at dksX6_init_21 11 rfl rfl)
theorem dX6_init_506 : decode cX6_init 506 = .ok (.bipush 40, 2) := dk_16 40 (dk_at dksX6_init_21 12 rfl rfl)
theorem dX6_init_508 : decode cX6_init 508 = .ok (.newarray .int, 2) := dk_188_10 (dk_at dksX6_init_21 14 rfl rfl)
theorem dX6_init_510 : decode cX6_init 510 = .ok (.putfield 90, 3) := dk_181 0 90 (dk_at dksX6_init_21 16 rfl rfl)
theorem dX6_init_513 : decode cX6_init 513 = .ok (.aload_n 0, 1) := dk_42 (dk_at dksX6_init_21 19 rfl rfl)
theorem dX6_init_514 : decode cX6_init 514 = .ok (.iconst 5, 1) := dk_8 (dk_at dksX6_init_21 20 rfl rfl)
theorem dX6_init_515 : decode cX6_init 515 = .ok (.newarray .int, 2) := dk_188_10 (dk_at dksX6_init_21 21 rfl rfl)
theorem dX6_init_517 : decode cX6_init 517 = .ok (.putfield 93, 3) := dk_181 0 93 (dk_at dksX6_init_22 0 rfl rfl)
theorem dX6_init_520 : decode cX6_init 520 = .ok (.aload_n 0, 1) := dk_42 (dk_at dksX6_init_22 3 rfl rfl)
theorem dX6_init_521 : decode cX6_init 521 = .ok (.iconst 5, 1) := dk_8 (dk_at dksX6_init_22 4 rfl rfl)
theorem dX6_init_522 : decode cX6_init 522 = .ok (.newarray .int, 2) := dk_188_10 (dk_at dksX6_init_22 5 rfl rfl)
theorem dX6_init_524 : decode cX6_init 524 = .ok (.putfield 96, 3) := dk_181 0 96 (dk_at dksX6_init_22 7 rfl rfl)
theorem dX6_init_527 : decode cX6_init 527 = .ok (.aload_n 0, 1) := dk_42 (dk_at dksX6_init_22 10 rfl rfl)
theorem dX6_init_528 : decode cX6_init 528 = .ok (.bipush 8, 2) := dk_16 8 (dk_at dksX6_init_22 11 rfl rfl)
theorem dX6_init_530 : decode cX6_init 530 = .ok (.newarray .int, 2) := dk_188_10 (dk_at dksX6_init_22 13 rfl rfl)
theorem dX6_init_532 : decode cX6_init 532 = .ok (.putfield 99, 3) := dk_181 0 99 (dk_at dksX6_init_22 15 rfl rfl)
theorem dX6_init_535 : decode cX6_init 535 = .ok (.aload_n 0, 1) := dk_42 (dk_at dksX6_init_22 18 rfl rfl)
theorem dX6_init_536 : decode cX6_init 536 = .ok (.bipush 8, 2) := dk_16 8 (dk_at dksX6_init_22 19 rfl rfl)
theorem dX6_init_538 : decode cX6_init 538 = .ok (.newarray .int, 2) := dk_188_10 (dk_at dksX6_init_22 21 rfl rfl)
theorem dX6_init_540 : decode cX6_init 540 = .ok (.putfield 102, 3) := dk_181 0 102 (dk_at dksX6_init_23 0 rfl rfl)
theorem dX6_init_543 : decode cX6_init 543 = .ok (.aload_n 0, 1) := dk_42 (dk_at dksX6_init_23 3 rfl rfl)
theorem dX6_init_544 : decode cX6_init 544 = .ok (.bipush 8, 2) := dk_16 8 (dk_at dksX6_init_23 4 rfl rfl)
theorem dX6_init_546 : decode cX6_init 546 = .ok (.newarray .int, 2) := dk_188_10 (dk_at dksX6_init_23 6 rfl rfl)
theorem dX6_init_548 : decode cX6_init 548 = .ok (.putfield 105, 3) := dk_181 0 105 (dk_at dksX6_init_23 8 rfl rfl)
theorem dX6_init_551 : decode cX6_init 551 = .ok (.aload_n 0, 1) := dk_42 (dk_at dksX6_init_23 11 rfl rfl)
theorem dX6_init_552 : decode cX6_init 552 = .ok (.bipush 8, 2) := dk_16 8 (dk_at dksX6_init_23 12 rfl rfl)
theorem dX6_init_554 : decode cX6_init 554 = .ok (.newarray .int, 2) := dk_188_10 (dk_at dksX6_init_23 14 rfl rfl)
theorem dX6_init_556 : decode cX6_init 556 = .ok (.putfield 108, 3) := dk_181 0 108 (dk_at dksX6_init_23 16 rfl rfl)
theorem dX6_init_559 : decode cX6_init 559 = .ok (.aload_n 0, 1) := dk_42 (dk_at dksX6_init_23 19 rfl rfl)
theorem dX6_init_560 : decode cX6_init 560 = .ok (.bipush 8, 2) := dk_16 8 (dk_at dksX6_init_23 20 rfl rfl)
theorem dX6_init_562 : decode cX6_init 562 = .ok (.newarray .int, 2) := dk_188_10 (dk_at dksX6_init_23 22 rfl rfl)
theorem dX6_init_564 : decode cX6_init 564 = .ok (.putfield 111, 3) := dk_181 0 111 (dk_at dksX6_init_24 0 rfl rfl)
theorem dX6_init_567 : decode cX6_init 567 = .ok (.aload_n 0, 1) := dk_42 (dk_at dksX6_init_24 3 rfl rfl)
theorem dX6_init_568 : decode cX6_init 568 = .ok (.bipush 20, 2) := dk_16 20 (dk_at dksX6_init_24 4 rfl rfl)
theorem dX6_init_570 : decode cX6_init 570 = .ok (.newarray .int, 2) := dk_188_10 (dk_at dksX6_init_24 6 rfl rfl)
theorem dX6_init_572 : decode cX6_init 572 = .ok (.putfield 114, 3) := dk_181 0 114 (dk_at dksX6_init_24 8 rfl rfl)
theorem dX6_init_575 : decode cX6_init 575 = .ok (.return_, 1) := dk_177 (dk_at dksX6_init_24 11 rfl rfl)
abbrev cX6_row : ByteArray := prog_23_method_8_code
def yX6_row : MethodName := ⟨RX6, "row", "(III)I"⟩
def dkwX6_row_4 : List UInt8 := [27, 104, 21, 4, 96, 9, 80, 132, 4, 1, 167, 255, 231, 4, 172]
abbrev dktX6_row_4 : List UInt8 := dkwX6_row_4 ++ []
def dkwX6_row_3 : List UInt8 := [180, 0, 62, 27, 29, 79, 3, 54, 4, 21, 4, 17, 0, 160, 162, 0, 23, 42, 180, 0, 68, 17, 0, 160]
abbrev dktX6_row_3 : List UInt8 := dkwX6_row_3 ++ dktX6_row_4
def dkwX6_row_2 : List UInt8 := [42, 16, 249, 182, 0, 127, 172, 42, 180, 0, 56, 27, 4, 79, 42, 180, 0, 59, 27, 28, 79, 42]
abbrev dktX6_row_2 : List UInt8 := dkwX6_row_2 ++ dktX6_row_3
def dkwX6_row_1 : List UInt8 := [172, 28, 155, 0, 8, 28, 6, 164, 0, 10, 42, 16, 250, 182, 0, 127, 172, 29, 17, 0, 160, 164, 0, 10]
abbrev dktX6_row_1 : List UInt8 := dkwX6_row_1 ++ dktX6_row_2
def dkwX6_row_0 : List UInt8 := [42, 27, 182, 0, 123, 154, 0, 9, 42, 2, 182, 0, 127, 172, 29, 156, 0, 10, 42, 16, 252, 182, 0, 127]
abbrev dktX6_row_0 : List UInt8 := dkwX6_row_0 ++ dktX6_row_1
theorem dksX6_row_0 : cX6_row.data.toList.drop 0 = dktX6_row_0 := by decide +kernel
theorem dksX6_row_1 : cX6_row.data.toList.drop 24 = dktX6_row_1 := dk_seg dksX6_row_0 24 rfl rfl
theorem dksX6_row_2 : cX6_row.data.toList.drop 48 = dktX6_row_2 := dk_seg dksX6_row_1 24 rfl rfl
theorem dksX6_row_3 : cX6_row.data.toList.drop 70 = dktX6_row_3 := dk_seg dksX6_row_2 22 rfl rfl
theorem dksX6_row_4 : cX6_row.data.toList.drop 94 = dktX6_row_4 := dk_seg dksX6_row_3 24 rfl rfl
theorem dX6_row_0 : decode cX6_row 0 = .ok (.aload_n 0, 1) := dk_42 (dk_at dksX6_row_0 0 rfl rfl)
theorem dX6_row_1 : decode cX6_row 1 = .ok (.iload_n 1, 1) := dk_27 (dk_at dksX6_row_0 1 rfl rfl)
theorem dX6_row_2 : decode cX6_row 2 = .ok (.invokevirtual 123, 3) := dk_182 0 123 (dk_at dksX6_row_0 2 rfl rfl)
theorem dX6_row_5 : decode cX6_row 5 = .ok (.ifCond .ne 9, 3) := dk_154 0 9 (dk_at dksX6_row_0 5 rfl rfl)
theorem dX6_row_8 : decode cX6_row 8 = .ok (.aload_n 0, 1) := dk_42 (dk_at dksX6_row_0 8 rfl rfl)
theorem dX6_row_9 : decode cX6_row 9 = .ok (.iconst (-1), 1) := dk_2 (dk_at dksX6_row_0 9 rfl rfl)
theorem dX6_row_10 : decode cX6_row 10 = .ok (.invokevirtual 127, 3) := dk_182 0 127 (dk_at dksX6_row_0 10 rfl rfl)
theorem dX6_row_13 : decode cX6_row 13 = .ok (.ireturn, 1) := dk_172 (dk_at dksX6_row_0 13 rfl rfl)
theorem dX6_row_14 : decode cX6_row 14 = .ok (.iload_n 3, 1) := dk_29 (dk_at dksX6_row_0 14 rfl rfl)
theorem dX6_row_15 : decode cX6_row 15 = .ok (.ifCond .ge 10, 3) := dk_156 0 10 (dk_at dksX6_row_0 15 rfl rfl)
theorem dX6_row_18 : decode cX6_row 18 = .ok (.aload_n 0, 1) := dk_42 (dk_at dksX6_row_0 18 rfl rfl)
theorem dX6_row_19 : decode cX6_row 19 = .ok (.bipush (-4), 2) := dk_16 252 (dk_at dksX6_row_0 19 rfl rfl)
theorem dX6_row_21 : decode cX6_row 21 = .ok (.invokevirtual 127, 3) := dk_182 0 127 (dk_at dksX6_row_0 21 rfl rfl)
theorem dX6_row_24 : decode cX6_row 24 = .ok (.ireturn, 1) := dk_172 (dk_at dksX6_row_1 0 rfl rfl)
theorem dX6_row_25 : decode cX6_row 25 = .ok (.iload_n 2, 1) := dk_28 (dk_at dksX6_row_1 1 rfl rfl)
theorem dX6_row_26 : decode cX6_row 26 = .ok (.ifCond .lt 8, 3) := dk_155 0 8 (dk_at dksX6_row_1 2 rfl rfl)
theorem dX6_row_29 : decode cX6_row 29 = .ok (.iload_n 2, 1) := dk_28 (dk_at dksX6_row_1 5 rfl rfl)
theorem dX6_row_30 : decode cX6_row 30 = .ok (.iconst 3, 1) := dk_6 (dk_at dksX6_row_1 6 rfl rfl)
theorem dX6_row_31 : decode cX6_row 31 = .ok (.if_icmp .le 10, 3) := dk_164 0 10 (dk_at dksX6_row_1 7 rfl rfl)
theorem dX6_row_34 : decode cX6_row 34 = .ok (.aload_n 0, 1) := dk_42 (dk_at dksX6_row_1 10 rfl rfl)
theorem dX6_row_35 : decode cX6_row 35 = .ok (.bipush (-6), 2) := dk_16 250 (dk_at dksX6_row_1 11 rfl rfl)
theorem dX6_row_37 : decode cX6_row 37 = .ok (.invokevirtual 127, 3) := dk_182 0 127 (dk_at dksX6_row_1 13 rfl rfl)
theorem dX6_row_40 : decode cX6_row 40 = .ok (.ireturn, 1) := dk_172 (dk_at dksX6_row_1 16 rfl rfl)
theorem dX6_row_41 : decode cX6_row 41 = .ok (.iload_n 3, 1) := dk_29 (dk_at dksX6_row_1 17 rfl rfl)
theorem dX6_row_42 : decode cX6_row 42 = .ok (.sipush 160, 3) := dk_17 0 160 (dk_at dksX6_row_1 18 rfl rfl)
theorem dX6_row_45 : decode cX6_row 45 = .ok (.if_icmp .le 10, 3) := dk_164 0 10 (dk_at dksX6_row_1 21 rfl rfl)
theorem dX6_row_48 : decode cX6_row 48 = .ok (.aload_n 0, 1) := dk_42 (dk_at dksX6_row_2 0 rfl rfl)
theorem dX6_row_49 : decode cX6_row 49 = .ok (.bipush (-7), 2) := dk_16 249 (dk_at dksX6_row_2 1 rfl rfl)
theorem dX6_row_51 : decode cX6_row 51 = .ok (.invokevirtual 127, 3) := dk_182 0 127 (dk_at dksX6_row_2 3 rfl rfl)
theorem dX6_row_54 : decode cX6_row 54 = .ok (.ireturn, 1) := dk_172 (dk_at dksX6_row_2 6 rfl rfl)
theorem dX6_row_55 : decode cX6_row 55 = .ok (.aload_n 0, 1) := dk_42 (dk_at dksX6_row_2 7 rfl rfl)
theorem dX6_row_56 : decode cX6_row 56 = .ok (.getfield 56, 3) := dk_180 0 56 (dk_at dksX6_row_2 8 rfl rfl)
theorem dX6_row_59 : decode cX6_row 59 = .ok (.iload_n 1, 1) := dk_27 (dk_at dksX6_row_2 11 rfl rfl)
theorem dX6_row_60 : decode cX6_row 60 = .ok (.iconst 1, 1) := dk_4 (dk_at dksX6_row_2 12 rfl rfl)
theorem dX6_row_61 : decode cX6_row 61 = .ok (.iastore, 1) := dk_79 (dk_at dksX6_row_2 13 rfl rfl)
theorem dX6_row_62 : decode cX6_row 62 = .ok (.aload_n 0, 1) := dk_42 (dk_at dksX6_row_2 14 rfl rfl)
theorem dX6_row_63 : decode cX6_row 63 = .ok (.getfield 59, 3) := dk_180 0 59 (dk_at dksX6_row_2 15 rfl rfl)
theorem dX6_row_66 : decode cX6_row 66 = .ok (.iload_n 1, 1) := dk_27 (dk_at dksX6_row_2 18 rfl rfl)
theorem dX6_row_67 : decode cX6_row 67 = .ok (.iload_n 2, 1) := dk_28 (dk_at dksX6_row_2 19 rfl rfl)
theorem dX6_row_68 : decode cX6_row 68 = .ok (.iastore, 1) := dk_79 (dk_at dksX6_row_2 20 rfl rfl)
theorem dX6_row_69 : decode cX6_row 69 = .ok (.aload_n 0, 1) := dk_42 (dk_at dksX6_row_2 21 rfl rfl)
theorem dX6_row_70 : decode cX6_row 70 = .ok (.getfield 62, 3) := dk_180 0 62 (dk_at dksX6_row_3 0 rfl rfl)
theorem dX6_row_73 : decode cX6_row 73 = .ok (.iload_n 1, 1) := dk_27 (dk_at dksX6_row_3 3 rfl rfl)
theorem dX6_row_74 : decode cX6_row 74 = .ok (.iload_n 3, 1) := dk_29 (dk_at dksX6_row_3 4 rfl rfl)
theorem dX6_row_75 : decode cX6_row 75 = .ok (.iastore, 1) := dk_79 (dk_at dksX6_row_3 5 rfl rfl)
theorem dX6_row_76 : decode cX6_row 76 = .ok (.iconst 0, 1) := dk_3 (dk_at dksX6_row_3 6 rfl rfl)
theorem dX6_row_77 : decode cX6_row 77 = .ok (.istore 4, 2) := dk_54 4 (dk_at dksX6_row_3 7 rfl rfl)
theorem dX6_row_79 : decode cX6_row 79 = .ok (.iload 4, 2) := dk_21 4 (dk_at dksX6_row_3 9 rfl rfl)
theorem dX6_row_81 : decode cX6_row 81 = .ok (.sipush 160, 3) := dk_17 0 160 (dk_at dksX6_row_3 11 rfl rfl)
theorem dX6_row_84 : decode cX6_row 84 = .ok (.if_icmp .ge 23, 3) := dk_162 0 23 (dk_at dksX6_row_3 14 rfl rfl)
theorem dX6_row_87 : decode cX6_row 87 = .ok (.aload_n 0, 1) := dk_42 (dk_at dksX6_row_3 17 rfl rfl)
theorem dX6_row_88 : decode cX6_row 88 = .ok (.getfield 68, 3) := dk_180 0 68 (dk_at dksX6_row_3 18 rfl rfl)
theorem dX6_row_91 : decode cX6_row 91 = .ok (.sipush 160, 3) := dk_17 0 160 (dk_at dksX6_row_3 21 rfl rfl)
theorem dX6_row_94 : decode cX6_row 94 = .ok (.iload_n 1, 1) := dk_27 (dk_at dksX6_row_4 0 rfl rfl)
theorem dX6_row_95 : decode cX6_row 95 = .ok (.imul, 1) := dk_104 (dk_at dksX6_row_4 1 rfl rfl)
theorem dX6_row_96 : decode cX6_row 96 = .ok (.iload 4, 2) := dk_21 4 (dk_at dksX6_row_4 2 rfl rfl)
theorem dX6_row_98 : decode cX6_row 98 = .ok (.iadd, 1) := dk_96 (dk_at dksX6_row_4 4 rfl rfl)
theorem dX6_row_99 : decode cX6_row 99 = .ok (.lconst 0, 1) := dk_9 (dk_at dksX6_row_4 5 rfl rfl)
theorem dX6_row_100 : decode cX6_row 100 = .ok (.lastore, 1) := dk_80 (dk_at dksX6_row_4 6 rfl rfl)
theorem dX6_row_101 : decode cX6_row 101 = .ok (.iinc 4 1, 3) := dk_132 4 1 (dk_at dksX6_row_4 7 rfl rfl)
theorem dX6_row_104 : decode cX6_row 104 = .ok (.goto (-25), 3) := dk_167 255 231 (dk_at dksX6_row_4 10 rfl rfl)
theorem dX6_row_107 : decode cX6_row 107 = .ok (.iconst 1, 1) := dk_4 (dk_at dksX6_row_4 13 rfl rfl)
theorem dX6_row_108 : decode cX6_row 108 = .ok (.ireturn, 1) := dk_172 (dk_at dksX6_row_4 14 rfl rfl)
abbrev cX6_isShelf : ByteArray := prog_23_method_4_code
def yX6_isShelf : MethodName := ⟨RX6, "isShelf", "(I)Z"⟩
def dkwX6_isShelf_0 : List UInt8 := [27, 155, 0, 13, 27, 16, 8, 162, 0, 7, 4, 167, 0, 4, 3, 172]
abbrev dktX6_isShelf_0 : List UInt8 := dkwX6_isShelf_0 ++ []
theorem dksX6_isShelf_0 : cX6_isShelf.data.toList.drop 0 = dktX6_isShelf_0 := by decide +kernel
theorem dX6_isShelf_0 : decode cX6_isShelf 0 = .ok (.iload_n 1, 1) := dk_27 (dk_at dksX6_isShelf_0 0 rfl rfl)
theorem dX6_isShelf_1 : decode cX6_isShelf 1 = .ok (.ifCond .lt 13, 3) := dk_155 0 13 (dk_at dksX6_isShelf_0 1 rfl rfl)
theorem dX6_isShelf_4 : decode cX6_isShelf 4 = .ok (.iload_n 1, 1) := dk_27 (dk_at dksX6_isShelf_0 4 rfl rfl)
theorem dX6_isShelf_5 : decode cX6_isShelf 5 = .ok (.bipush 8, 2) := dk_16 8 (dk_at dksX6_isShelf_0 5 rfl rfl)
theorem dX6_isShelf_7 : decode cX6_isShelf 7 = .ok (.if_icmp .ge 7, 3) := dk_162 0 7 (dk_at dksX6_isShelf_0 7 rfl rfl)
theorem dX6_isShelf_10 : decode cX6_isShelf 10 = .ok (.iconst 1, 1) := dk_4 (dk_at dksX6_isShelf_0 10 rfl rfl)
theorem dX6_isShelf_11 : decode cX6_isShelf 11 = .ok (.goto 4, 3) := dk_167 0 4 (dk_at dksX6_isShelf_0 11 rfl rfl)
theorem dX6_isShelf_14 : decode cX6_isShelf 14 = .ok (.iconst 0, 1) := dk_3 (dk_at dksX6_isShelf_0 14 rfl rfl)
theorem dX6_isShelf_15 : decode cX6_isShelf 15 = .ok (.ireturn, 1) := dk_172 (dk_at dksX6_isShelf_0 15 rfl rfl)
abbrev cX6_no : ByteArray := prog_23_method_2_code
def yX6_no : MethodName := ⟨RX6, "no", "(I)I"⟩
def dkwX6_no_0 : List UInt8 := [42, 180, 0, 28, 27, 116, 92, 46, 4, 96, 79, 27, 172]
abbrev dktX6_no_0 : List UInt8 := dkwX6_no_0 ++ []
theorem dksX6_no_0 : cX6_no.data.toList.drop 0 = dktX6_no_0 := by decide +kernel
theorem dX6_no_0 : decode cX6_no 0 = .ok (.aload_n 0, 1) := dk_42 (dk_at dksX6_no_0 0 rfl rfl)
theorem dX6_no_1 : decode cX6_no 1 = .ok (.getfield 28, 3) := dk_180 0 28 (dk_at dksX6_no_0 1 rfl rfl)
theorem dX6_no_4 : decode cX6_no 4 = .ok (.iload_n 1, 1) := dk_27 (dk_at dksX6_no_0 4 rfl rfl)
theorem dX6_no_5 : decode cX6_no 5 = .ok (.ineg, 1) := dk_116 (dk_at dksX6_no_0 5 rfl rfl)
theorem dX6_no_6 : decode cX6_no 6 = .ok (.dup2, 1) := dk_92 (dk_at dksX6_no_0 6 rfl rfl)
theorem dX6_no_7 : decode cX6_no 7 = .ok (.iaload, 1) := dk_46 (dk_at dksX6_no_0 7 rfl rfl)
theorem dX6_no_8 : decode cX6_no 8 = .ok (.iconst 1, 1) := dk_4 (dk_at dksX6_no_0 8 rfl rfl)
theorem dX6_no_9 : decode cX6_no 9 = .ok (.iadd, 1) := dk_96 (dk_at dksX6_no_0 9 rfl rfl)
theorem dX6_no_10 : decode cX6_no 10 = .ok (.iastore, 1) := dk_79 (dk_at dksX6_no_0 10 rfl rfl)
theorem dX6_no_11 : decode cX6_no 11 = .ok (.iload_n 1, 1) := dk_27 (dk_at dksX6_no_0 11 rfl rfl)
theorem dX6_no_12 : decode cX6_no 12 = .ok (.ireturn, 1) := dk_172 (dk_at dksX6_no_0 12 rfl rfl)
abbrev cX6_set : ByteArray := prog_23_method_9_code
def yX6_set : MethodName := ⟨RX6, "set", "(IIJ)I"⟩
def dkwX6_set_5 : List UInt8 := [160, 0, 9, 33, 136, 133, 167, 0, 4, 33, 80, 4, 172]
abbrev dktX6_set_5 : List UInt8 := dkwX6_set_5 ++ []
def dkwX6_set_4 : List UInt8 := [180, 0, 59, 27, 46, 4, 160, 0, 10, 33, 136, 147, 133, 167, 0, 20, 42, 180, 0, 59, 27, 46, 5]
abbrev dktX6_set_4 : List UInt8 := dkwX6_set_4 ++ dktX6_set_5
def dkwX6_set_3 : List UInt8 := [17, 0, 160, 27, 104, 28, 96, 42, 180, 0, 59, 27, 46, 154, 0, 10, 33, 136, 145, 133, 167, 0, 37, 42]
abbrev dktX6_set_3 : List UInt8 := dkwX6_set_3 ++ dktX6_set_4
def dkwX6_set_2 : List UInt8 := [155, 0, 13, 28, 42, 180, 0, 62, 27, 46, 161, 0, 10, 42, 16, 251, 182, 0, 127, 172, 42, 180, 0, 68]
abbrev dktX6_set_2 : List UInt8 := dkwX6_set_2 ++ dktX6_set_3
def dkwX6_set_1 : List UInt8 := [42, 16, 254, 182, 0, 127, 172, 42, 180, 0, 56, 27, 46, 154, 0, 10, 42, 16, 253, 182, 0, 127, 172, 28]
abbrev dktX6_set_1 : List UInt8 := dkwX6_set_1 ++ dktX6_set_2
def dkwX6_set_0 : List UInt8 := [42, 27, 182, 0, 123, 154, 0, 9, 42, 2, 182, 0, 127, 172, 42, 180, 0, 56, 27, 46, 5, 160, 0, 10]
abbrev dktX6_set_0 : List UInt8 := dkwX6_set_0 ++ dktX6_set_1
theorem dksX6_set_0 : cX6_set.data.toList.drop 0 = dktX6_set_0 := by decide +kernel
theorem dksX6_set_1 : cX6_set.data.toList.drop 24 = dktX6_set_1 := dk_seg dksX6_set_0 24 rfl rfl
theorem dksX6_set_2 : cX6_set.data.toList.drop 48 = dktX6_set_2 := dk_seg dksX6_set_1 24 rfl rfl
theorem dksX6_set_3 : cX6_set.data.toList.drop 72 = dktX6_set_3 := dk_seg dksX6_set_2 24 rfl rfl
theorem dksX6_set_4 : cX6_set.data.toList.drop 96 = dktX6_set_4 := dk_seg dksX6_set_3 24 rfl rfl
theorem dksX6_set_5 : cX6_set.data.toList.drop 119 = dktX6_set_5 := dk_seg dksX6_set_4 23 rfl rfl
theorem dX6_set_0 : decode cX6_set 0 = .ok (.aload_n 0, 1) := dk_42 (dk_at dksX6_set_0 0 rfl rfl)
theorem dX6_set_1 : decode cX6_set 1 = .ok (.iload_n 1, 1) := dk_27 (dk_at dksX6_set_0 1 rfl rfl)
theorem dX6_set_2 : decode cX6_set 2 = .ok (.invokevirtual 123, 3) := dk_182 0 123 (dk_at dksX6_set_0 2 rfl rfl)
theorem dX6_set_5 : decode cX6_set 5 = .ok (.ifCond .ne 9, 3) := dk_154 0 9 (dk_at dksX6_set_0 5 rfl rfl)
theorem dX6_set_8 : decode cX6_set 8 = .ok (.aload_n 0, 1) := dk_42 (dk_at dksX6_set_0 8 rfl rfl)
theorem dX6_set_9 : decode cX6_set 9 = .ok (.iconst (-1), 1) := dk_2 (dk_at dksX6_set_0 9 rfl rfl)
theorem dX6_set_10 : decode cX6_set 10 = .ok (.invokevirtual 127, 3) := dk_182 0 127 (dk_at dksX6_set_0 10 rfl rfl)
theorem dX6_set_13 : decode cX6_set 13 = .ok (.ireturn, 1) := dk_172 (dk_at dksX6_set_0 13 rfl rfl)
theorem dX6_set_14 : decode cX6_set 14 = .ok (.aload_n 0, 1) := dk_42 (dk_at dksX6_set_0 14 rfl rfl)
theorem dX6_set_15 : decode cX6_set 15 = .ok (.getfield 56, 3) := dk_180 0 56 (dk_at dksX6_set_0 15 rfl rfl)
theorem dX6_set_18 : decode cX6_set 18 = .ok (.iload_n 1, 1) := dk_27 (dk_at dksX6_set_0 18 rfl rfl)
theorem dX6_set_19 : decode cX6_set 19 = .ok (.iaload, 1) := dk_46 (dk_at dksX6_set_0 19 rfl rfl)
theorem dX6_set_20 : decode cX6_set 20 = .ok (.iconst 2, 1) := dk_5 (dk_at dksX6_set_0 20 rfl rfl)
theorem dX6_set_21 : decode cX6_set 21 = .ok (.if_icmp .ne 10, 3) := dk_160 0 10 (dk_at dksX6_set_0 21 rfl rfl)
theorem dX6_set_24 : decode cX6_set 24 = .ok (.aload_n 0, 1) := dk_42 (dk_at dksX6_set_1 0 rfl rfl)
theorem dX6_set_25 : decode cX6_set 25 = .ok (.bipush (-2), 2) := dk_16 254 (dk_at dksX6_set_1 1 rfl rfl)
theorem dX6_set_27 : decode cX6_set 27 = .ok (.invokevirtual 127, 3) := dk_182 0 127 (dk_at dksX6_set_1 3 rfl rfl)
theorem dX6_set_30 : decode cX6_set 30 = .ok (.ireturn, 1) := dk_172 (dk_at dksX6_set_1 6 rfl rfl)
theorem dX6_set_31 : decode cX6_set 31 = .ok (.aload_n 0, 1) := dk_42 (dk_at dksX6_set_1 7 rfl rfl)
theorem dX6_set_32 : decode cX6_set 32 = .ok (.getfield 56, 3) := dk_180 0 56 (dk_at dksX6_set_1 8 rfl rfl)
theorem dX6_set_35 : decode cX6_set 35 = .ok (.iload_n 1, 1) := dk_27 (dk_at dksX6_set_1 11 rfl rfl)
theorem dX6_set_36 : decode cX6_set 36 = .ok (.iaload, 1) := dk_46 (dk_at dksX6_set_1 12 rfl rfl)
theorem dX6_set_37 : decode cX6_set 37 = .ok (.ifCond .ne 10, 3) := dk_154 0 10 (dk_at dksX6_set_1 13 rfl rfl)
theorem dX6_set_40 : decode cX6_set 40 = .ok (.aload_n 0, 1) := dk_42 (dk_at dksX6_set_1 16 rfl rfl)
theorem dX6_set_41 : decode cX6_set 41 = .ok (.bipush (-3), 2) := dk_16 253 (dk_at dksX6_set_1 17 rfl rfl)
theorem dX6_set_43 : decode cX6_set 43 = .ok (.invokevirtual 127, 3) := dk_182 0 127 (dk_at dksX6_set_1 19 rfl rfl)
theorem dX6_set_46 : decode cX6_set 46 = .ok (.ireturn, 1) := dk_172 (dk_at dksX6_set_1 22 rfl rfl)
theorem dX6_set_47 : decode cX6_set 47 = .ok (.iload_n 2, 1) := dk_28 (dk_at dksX6_set_1 23 rfl rfl)
theorem dX6_set_48 : decode cX6_set 48 = .ok (.ifCond .lt 13, 3) := dk_155 0 13 (dk_at dksX6_set_2 0 rfl rfl)
theorem dX6_set_51 : decode cX6_set 51 = .ok (.iload_n 2, 1) := dk_28 (dk_at dksX6_set_2 3 rfl rfl)
theorem dX6_set_52 : decode cX6_set 52 = .ok (.aload_n 0, 1) := dk_42 (dk_at dksX6_set_2 4 rfl rfl)
theorem dX6_set_53 : decode cX6_set 53 = .ok (.getfield 62, 3) := dk_180 0 62 (dk_at dksX6_set_2 5 rfl rfl)
theorem dX6_set_56 : decode cX6_set 56 = .ok (.iload_n 1, 1) := dk_27 (dk_at dksX6_set_2 8 rfl rfl)
theorem dX6_set_57 : decode cX6_set 57 = .ok (.iaload, 1) := dk_46 (dk_at dksX6_set_2 9 rfl rfl)
theorem dX6_set_58 : decode cX6_set 58 = .ok (.if_icmp .lt 10, 3) := dk_161 0 10 (dk_at dksX6_set_2 10 rfl rfl)
theorem dX6_set_61 : decode cX6_set 61 = .ok (.aload_n 0, 1) := dk_42 (dk_at dksX6_set_2 13 rfl rfl)
theorem dX6_set_62 : decode cX6_set 62 = .ok (.bipush (-5), 2) := dk_16 251 (dk_at dksX6_set_2 14 rfl rfl)
theorem dX6_set_64 : decode cX6_set 64 = .ok (.invokevirtual 127, 3) := dk_182 0 127 (dk_at dksX6_set_2 16 rfl rfl)
theorem dX6_set_67 : decode cX6_set 67 = .ok (.ireturn, 1) := dk_172 (dk_at dksX6_set_2 19 rfl rfl)
theorem dX6_set_68 : decode cX6_set 68 = .ok (.aload_n 0, 1) := dk_42 (dk_at dksX6_set_2 20 rfl rfl)
theorem dX6_set_69 : decode cX6_set 69 = .ok (.getfield 68, 3) := dk_180 0 68 (dk_at dksX6_set_2 21 rfl rfl)
theorem dX6_set_72 : decode cX6_set 72 = .ok (.sipush 160, 3) := dk_17 0 160 (dk_at dksX6_set_3 0 rfl rfl)
theorem dX6_set_75 : decode cX6_set 75 = .ok (.iload_n 1, 1) := dk_27 (dk_at dksX6_set_3 3 rfl rfl)
theorem dX6_set_76 : decode cX6_set 76 = .ok (.imul, 1) := dk_104 (dk_at dksX6_set_3 4 rfl rfl)
theorem dX6_set_77 : decode cX6_set 77 = .ok (.iload_n 2, 1) := dk_28 (dk_at dksX6_set_3 5 rfl rfl)
theorem dX6_set_78 : decode cX6_set 78 = .ok (.iadd, 1) := dk_96 (dk_at dksX6_set_3 6 rfl rfl)
theorem dX6_set_79 : decode cX6_set 79 = .ok (.aload_n 0, 1) := dk_42 (dk_at dksX6_set_3 7 rfl rfl)
theorem dX6_set_80 : decode cX6_set 80 = .ok (.getfield 59, 3) := dk_180 0 59 (dk_at dksX6_set_3 8 rfl rfl)
theorem dX6_set_83 : decode cX6_set 83 = .ok (.iload_n 1, 1) := dk_27 (dk_at dksX6_set_3 11 rfl rfl)
theorem dX6_set_84 : decode cX6_set 84 = .ok (.iaload, 1) := dk_46 (dk_at dksX6_set_3 12 rfl rfl)
theorem dX6_set_85 : decode cX6_set 85 = .ok (.ifCond .ne 10, 3) := dk_154 0 10 (dk_at dksX6_set_3 13 rfl rfl)
theorem dX6_set_88 : decode cX6_set 88 = .ok (.lload_n 3, 1) := dk_33 (dk_at dksX6_set_3 16 rfl rfl)
theorem dX6_set_89 : decode cX6_set 89 = .ok (.l2i, 1) := dk_136 (dk_at dksX6_set_3 17 rfl rfl)
theorem dX6_set_90 : decode cX6_set 90 = .ok (.i2b, 1) := dk_145 (dk_at dksX6_set_3 18 rfl rfl)
theorem dX6_set_91 : decode cX6_set 91 = .ok (.i2l, 1) := dk_133 (dk_at dksX6_set_3 19 rfl rfl)
theorem dX6_set_92 : decode cX6_set 92 = .ok (.goto 37, 3) := dk_167 0 37 (dk_at dksX6_set_3 20 rfl rfl)
theorem dX6_set_95 : decode cX6_set 95 = .ok (.aload_n 0, 1) := dk_42 (dk_at dksX6_set_3 23 rfl rfl)
theorem dX6_set_96 : decode cX6_set 96 = .ok (.getfield 59, 3) := dk_180 0 59 (dk_at dksX6_set_4 0 rfl rfl)
theorem dX6_set_99 : decode cX6_set 99 = .ok (.iload_n 1, 1) := dk_27 (dk_at dksX6_set_4 3 rfl rfl)
theorem dX6_set_100 : decode cX6_set 100 = .ok (.iaload, 1) := dk_46 (dk_at dksX6_set_4 4 rfl rfl)
theorem dX6_set_101 : decode cX6_set 101 = .ok (.iconst 1, 1) := dk_4 (dk_at dksX6_set_4 5 rfl rfl)
theorem dX6_set_102 : decode cX6_set 102 = .ok (.if_icmp .ne 10, 3) := dk_160 0 10 (dk_at dksX6_set_4 6 rfl rfl)
theorem dX6_set_105 : decode cX6_set 105 = .ok (.lload_n 3, 1) := dk_33 (dk_at dksX6_set_4 9 rfl rfl)
theorem dX6_set_106 : decode cX6_set 106 = .ok (.l2i, 1) := dk_136 (dk_at dksX6_set_4 10 rfl rfl)
theorem dX6_set_107 : decode cX6_set 107 = .ok (.i2s, 1) := dk_147 (dk_at dksX6_set_4 11 rfl rfl)
theorem dX6_set_108 : decode cX6_set 108 = .ok (.i2l, 1) := dk_133 (dk_at dksX6_set_4 12 rfl rfl)
theorem dX6_set_109 : decode cX6_set 109 = .ok (.goto 20, 3) := dk_167 0 20 (dk_at dksX6_set_4 13 rfl rfl)
theorem dX6_set_112 : decode cX6_set 112 = .ok (.aload_n 0, 1) := dk_42 (dk_at dksX6_set_4 16 rfl rfl)
theorem dX6_set_113 : decode cX6_set 113 = .ok (.getfield 59, 3) := dk_180 0 59 (dk_at dksX6_set_4 17 rfl rfl)
theorem dX6_set_116 : decode cX6_set 116 = .ok (.iload_n 1, 1) := dk_27 (dk_at dksX6_set_4 20 rfl rfl)
theorem dX6_set_117 : decode cX6_set 117 = .ok (.iaload, 1) := dk_46 (dk_at dksX6_set_4 21 rfl rfl)
theorem dX6_set_118 : decode cX6_set 118 = .ok (.iconst 2, 1) := dk_5 (dk_at dksX6_set_4 22 rfl rfl)
theorem dX6_set_119 : decode cX6_set 119 = .ok (.if_icmp .ne 9, 3) := dk_160 0 9 (dk_at dksX6_set_5 0 rfl rfl)
theorem dX6_set_122 : decode cX6_set 122 = .ok (.lload_n 3, 1) := dk_33 (dk_at dksX6_set_5 3 rfl rfl)
theorem dX6_set_123 : decode cX6_set 123 = .ok (.l2i, 1) := dk_136 (dk_at dksX6_set_5 4 rfl rfl)
theorem dX6_set_124 : decode cX6_set 124 = .ok (.i2l, 1) := dk_133 (dk_at dksX6_set_5 5 rfl rfl)
theorem dX6_set_125 : decode cX6_set 125 = .ok (.goto 4, 3) := dk_167 0 4 (dk_at dksX6_set_5 6 rfl rfl)
theorem dX6_set_128 : decode cX6_set 128 = .ok (.lload_n 3, 1) := dk_33 (dk_at dksX6_set_5 9 rfl rfl)
theorem dX6_set_129 : decode cX6_set 129 = .ok (.lastore, 1) := dk_80 (dk_at dksX6_set_5 10 rfl rfl)
theorem dX6_set_130 : decode cX6_set 130 = .ok (.iconst 1, 1) := dk_4 (dk_at dksX6_set_5 11 rfl rfl)
theorem dX6_set_131 : decode cX6_set 131 = .ok (.ireturn, 1) := dk_172 (dk_at dksX6_set_5 12 rfl rfl)
abbrev cX6_copy : ByteArray := prog_23_method_10_code
def yX6_copy : MethodName := ⟨RX6, "copy", "(IIIII)I"⟩
def dkwX6_copy_10 : List UInt8 := [132, 6, 1, 167, 255, 223, 4, 172]
abbrev dktX6_copy_10 : List UInt8 := dkwX6_copy_10 ++ []
def dkwX6_copy_9 : List UInt8 := [42, 180, 0, 68, 17, 0, 160, 28, 104, 21, 4, 96, 21, 6, 96, 42, 180, 0, 72, 21, 6, 47, 80]
abbrev dktX6_copy_9 : List UInt8 := dkwX6_copy_9 ++ dktX6_copy_10
def dkwX6_copy_8 : List UInt8 := [104, 29, 96, 21, 6, 96, 47, 80, 132, 6, 1, 167, 255, 224, 3, 54, 6, 21, 6, 21, 5, 162, 0, 32]
abbrev dktX6_copy_8 : List UInt8 := dkwX6_copy_8 ++ dktX6_copy_9
def dkwX6_copy_7 : List UInt8 := [3, 54, 6, 21, 6, 21, 5, 162, 0, 31, 42, 180, 0, 72, 21, 6, 42, 180, 0, 68, 17, 0, 160, 27]
abbrev dktX6_copy_7 : List UInt8 := dkwX6_copy_7 ++ dktX6_copy_8
def dkwX6_copy_6 : List UInt8 := [163, 0, 17, 21, 4, 42, 180, 0, 62, 28, 46, 21, 5, 100, 164, 0, 10, 42, 16, 251, 182, 0, 127, 172]
abbrev dktX6_copy_6 : List UInt8 := dkwX6_copy_6 ++ dktX6_copy_7
def dkwX6_copy_5 : List UInt8 := [182, 0, 127, 172, 29, 155, 0, 35, 21, 4, 155, 0, 30, 29, 42, 180, 0, 62, 27, 46, 21, 5, 100]
abbrev dktX6_copy_5 : List UInt8 := dkwX6_copy_5 ++ dktX6_copy_6
def dkwX6_copy_4 : List UInt8 := [42, 180, 0, 56, 28, 46, 154, 0, 10, 42, 16, 253, 182, 0, 127, 172, 21, 5, 156, 0, 10, 42, 16, 252]
abbrev dktX6_copy_4 : List UInt8 := dkwX6_copy_4 ++ dktX6_copy_5
def dkwX6_copy_3 : List UInt8 := [180, 0, 59, 28, 46, 159, 0, 10, 42, 16, 254, 182, 0, 127, 172, 42, 180, 0, 56, 27, 46, 153, 0, 12]
abbrev dktX6_copy_3 : List UInt8 := dkwX6_copy_3 ++ dktX6_copy_4
def dkwX6_copy_2 : List UInt8 := [46, 4, 160, 0, 35, 42, 180, 0, 56, 28, 46, 4, 160, 0, 25, 42, 180, 0, 59, 27, 46, 42]
abbrev dktX6_copy_2 : List UInt8 := dkwX6_copy_2 ++ dktX6_copy_3
def dkwX6_copy_1 : List UInt8 := [180, 0, 56, 27, 46, 5, 159, 0, 48, 42, 180, 0, 56, 28, 46, 5, 159, 0, 38, 42, 180, 0, 56, 27]
abbrev dktX6_copy_1 : List UInt8 := dkwX6_copy_1 ++ dktX6_copy_2
def dkwX6_copy_0 : List UInt8 := [42, 27, 182, 0, 123, 153, 0, 11, 42, 28, 182, 0, 123, 154, 0, 9, 42, 2, 182, 0, 127, 172, 42]
abbrev dktX6_copy_0 : List UInt8 := dkwX6_copy_0 ++ dktX6_copy_1
theorem dksX6_copy_0 : cX6_copy.data.toList.drop 0 = dktX6_copy_0 := by decide +kernel
theorem dksX6_copy_1 : cX6_copy.data.toList.drop 23 = dktX6_copy_1 := dk_seg dksX6_copy_0 23 rfl rfl
theorem dksX6_copy_2 : cX6_copy.data.toList.drop 47 = dktX6_copy_2 := dk_seg dksX6_copy_1 24 rfl rfl
theorem dksX6_copy_3 : cX6_copy.data.toList.drop 69 = dktX6_copy_3 := dk_seg dksX6_copy_2 22 rfl rfl
theorem dksX6_copy_4 : cX6_copy.data.toList.drop 93 = dktX6_copy_4 := dk_seg dksX6_copy_3 24 rfl rfl
theorem dksX6_copy_5 : cX6_copy.data.toList.drop 117 = dktX6_copy_5 := dk_seg dksX6_copy_4 24 rfl rfl
theorem dksX6_copy_6 : cX6_copy.data.toList.drop 140 = dktX6_copy_6 := dk_seg dksX6_copy_5 23 rfl rfl
theorem dksX6_copy_7 : cX6_copy.data.toList.drop 164 = dktX6_copy_7 := dk_seg dksX6_copy_6 24 rfl rfl
theorem dksX6_copy_8 : cX6_copy.data.toList.drop 188 = dktX6_copy_8 := dk_seg dksX6_copy_7 24 rfl rfl
theorem dksX6_copy_9 : cX6_copy.data.toList.drop 212 = dktX6_copy_9 := dk_seg dksX6_copy_8 24 rfl rfl
theorem dksX6_copy_10 : cX6_copy.data.toList.drop 235 = dktX6_copy_10 := dk_seg dksX6_copy_9 23 rfl rfl
theorem dX6_copy_0 : decode cX6_copy 0 = .ok (.aload_n 0, 1) := dk_42 (dk_at dksX6_copy_0 0 rfl rfl)
theorem dX6_copy_1 : decode cX6_copy 1 = .ok (.iload_n 1, 1) := dk_27 (dk_at dksX6_copy_0 1 rfl rfl)
theorem dX6_copy_2 : decode cX6_copy 2 = .ok (.invokevirtual 123, 3) := dk_182 0 123 (dk_at dksX6_copy_0 2 rfl rfl)
theorem dX6_copy_5 : decode cX6_copy 5 = .ok (.ifCond .eq 11, 3) := dk_153 0 11 (dk_at dksX6_copy_0 5 rfl rfl)
theorem dX6_copy_8 : decode cX6_copy 8 = .ok (.aload_n 0, 1) := dk_42 (dk_at dksX6_copy_0 8 rfl rfl)
theorem dX6_copy_9 : decode cX6_copy 9 = .ok (.iload_n 2, 1) := dk_28 (dk_at dksX6_copy_0 9 rfl rfl)
theorem dX6_copy_10 : decode cX6_copy 10 = .ok (.invokevirtual 123, 3) := dk_182 0 123 (dk_at dksX6_copy_0 10 rfl rfl)
theorem dX6_copy_13 : decode cX6_copy 13 = .ok (.ifCond .ne 9, 3) := dk_154 0 9 (dk_at dksX6_copy_0 13 rfl rfl)
theorem dX6_copy_16 : decode cX6_copy 16 = .ok (.aload_n 0, 1) := dk_42 (dk_at dksX6_copy_0 16 rfl rfl)
theorem dX6_copy_17 : decode cX6_copy 17 = .ok (.iconst (-1), 1) := dk_2 (dk_at dksX6_copy_0 17 rfl rfl)
theorem dX6_copy_18 : decode cX6_copy 18 = .ok (.invokevirtual 127, 3) := dk_182 0 127 (dk_at dksX6_copy_0 18 rfl rfl)
theorem dX6_copy_21 : decode cX6_copy 21 = .ok (.ireturn, 1) := dk_172 (dk_at dksX6_copy_0 21 rfl rfl)
theorem dX6_copy_22 : decode cX6_copy 22 = .ok (.aload_n 0, 1) := dk_42 (dk_at dksX6_copy_0 22 rfl rfl)
theorem dX6_copy_23 : decode cX6_copy 23 = .ok (.getfield 56, 3) := dk_180 0 56 (dk_at dksX6_copy_1 0 rfl rfl)
theorem dX6_copy_26 : decode cX6_copy 26 = .ok (.iload_n 1, 1) := dk_27 (dk_at dksX6_copy_1 3 rfl rfl)
theorem dX6_copy_27 : decode cX6_copy 27 = .ok (.iaload, 1) := dk_46 (dk_at dksX6_copy_1 4 rfl rfl)
theorem dX6_copy_28 : decode cX6_copy 28 = .ok (.iconst 2, 1) := dk_5 (dk_at dksX6_copy_1 5 rfl rfl)
theorem dX6_copy_29 : decode cX6_copy 29 = .ok (.if_icmp .eq 48, 3) := dk_159 0 48 (dk_at dksX6_copy_1 6 rfl rfl)
theorem dX6_copy_32 : decode cX6_copy 32 = .ok (.aload_n 0, 1) := dk_42 (dk_at dksX6_copy_1 9 rfl rfl)
theorem dX6_copy_33 : decode cX6_copy 33 = .ok (.getfield 56, 3) := dk_180 0 56 (dk_at dksX6_copy_1 10 rfl rfl)
theorem dX6_copy_36 : decode cX6_copy 36 = .ok (.iload_n 2, 1) := dk_28 (dk_at dksX6_copy_1 13 rfl rfl)
theorem dX6_copy_37 : decode cX6_copy 37 = .ok (.iaload, 1) := dk_46 (dk_at dksX6_copy_1 14 rfl rfl)
theorem dX6_copy_38 : decode cX6_copy 38 = .ok (.iconst 2, 1) := dk_5 (dk_at dksX6_copy_1 15 rfl rfl)
theorem dX6_copy_39 : decode cX6_copy 39 = .ok (.if_icmp .eq 38, 3) := dk_159 0 38 (dk_at dksX6_copy_1 16 rfl rfl)
theorem dX6_copy_42 : decode cX6_copy 42 = .ok (.aload_n 0, 1) := dk_42 (dk_at dksX6_copy_1 19 rfl rfl)
theorem dX6_copy_43 : decode cX6_copy 43 = .ok (.getfield 56, 3) := dk_180 0 56 (dk_at dksX6_copy_1 20 rfl rfl)
theorem dX6_copy_46 : decode cX6_copy 46 = .ok (.iload_n 1, 1) := dk_27 (dk_at dksX6_copy_1 23 rfl rfl)
theorem dX6_copy_47 : decode cX6_copy 47 = .ok (.iaload, 1) := dk_46 (dk_at dksX6_copy_2 0 rfl rfl)
theorem dX6_copy_48 : decode cX6_copy 48 = .ok (.iconst 1, 1) := dk_4 (dk_at dksX6_copy_2 1 rfl rfl)
theorem dX6_copy_49 : decode cX6_copy 49 = .ok (.if_icmp .ne 35, 3) := dk_160 0 35 (dk_at dksX6_copy_2 2 rfl rfl)
theorem dX6_copy_52 : decode cX6_copy 52 = .ok (.aload_n 0, 1) := dk_42 (dk_at dksX6_copy_2 5 rfl rfl)
theorem dX6_copy_53 : decode cX6_copy 53 = .ok (.getfield 56, 3) := dk_180 0 56 (dk_at dksX6_copy_2 6 rfl rfl)
theorem dX6_copy_56 : decode cX6_copy 56 = .ok (.iload_n 2, 1) := dk_28 (dk_at dksX6_copy_2 9 rfl rfl)
theorem dX6_copy_57 : decode cX6_copy 57 = .ok (.iaload, 1) := dk_46 (dk_at dksX6_copy_2 10 rfl rfl)
theorem dX6_copy_58 : decode cX6_copy 58 = .ok (.iconst 1, 1) := dk_4 (dk_at dksX6_copy_2 11 rfl rfl)
theorem dX6_copy_59 : decode cX6_copy 59 = .ok (.if_icmp .ne 25, 3) := dk_160 0 25 (dk_at dksX6_copy_2 12 rfl rfl)
theorem dX6_copy_62 : decode cX6_copy 62 = .ok (.aload_n 0, 1) := dk_42 (dk_at dksX6_copy_2 15 rfl rfl)
theorem dX6_copy_63 : decode cX6_copy 63 = .ok (.getfield 59, 3) := dk_180 0 59 (dk_at dksX6_copy_2 16 rfl rfl)
theorem dX6_copy_66 : decode cX6_copy 66 = .ok (.iload_n 1, 1) := dk_27 (dk_at dksX6_copy_2 19 rfl rfl)
theorem dX6_copy_67 : decode cX6_copy 67 = .ok (.iaload, 1) := dk_46 (dk_at dksX6_copy_2 20 rfl rfl)
theorem dX6_copy_68 : decode cX6_copy 68 = .ok (.aload_n 0, 1) := dk_42 (dk_at dksX6_copy_2 21 rfl rfl)
theorem dX6_copy_69 : decode cX6_copy 69 = .ok (.getfield 59, 3) := dk_180 0 59 (dk_at dksX6_copy_3 0 rfl rfl)
theorem dX6_copy_72 : decode cX6_copy 72 = .ok (.iload_n 2, 1) := dk_28 (dk_at dksX6_copy_3 3 rfl rfl)
theorem dX6_copy_73 : decode cX6_copy 73 = .ok (.iaload, 1) := dk_46 (dk_at dksX6_copy_3 4 rfl rfl)
theorem dX6_copy_74 : decode cX6_copy 74 = .ok (.if_icmp .eq 10, 3) := dk_159 0 10 (dk_at dksX6_copy_3 5 rfl rfl)
theorem dX6_copy_77 : decode cX6_copy 77 = .ok (.aload_n 0, 1) := dk_42 (dk_at dksX6_copy_3 8 rfl rfl)
theorem dX6_copy_78 : decode cX6_copy 78 = .ok (.bipush (-2), 2) := dk_16 254 (dk_at dksX6_copy_3 9 rfl rfl)
theorem dX6_copy_80 : decode cX6_copy 80 = .ok (.invokevirtual 127, 3) := dk_182 0 127 (dk_at dksX6_copy_3 11 rfl rfl)
theorem dX6_copy_83 : decode cX6_copy 83 = .ok (.ireturn, 1) := dk_172 (dk_at dksX6_copy_3 14 rfl rfl)
theorem dX6_copy_84 : decode cX6_copy 84 = .ok (.aload_n 0, 1) := dk_42 (dk_at dksX6_copy_3 15 rfl rfl)
theorem dX6_copy_85 : decode cX6_copy 85 = .ok (.getfield 56, 3) := dk_180 0 56 (dk_at dksX6_copy_3 16 rfl rfl)
theorem dX6_copy_88 : decode cX6_copy 88 = .ok (.iload_n 1, 1) := dk_27 (dk_at dksX6_copy_3 19 rfl rfl)
theorem dX6_copy_89 : decode cX6_copy 89 = .ok (.iaload, 1) := dk_46 (dk_at dksX6_copy_3 20 rfl rfl)
theorem dX6_copy_90 : decode cX6_copy 90 = .ok (.ifCond .eq 12, 3) := dk_153 0 12 (dk_at dksX6_copy_3 21 rfl rfl)
theorem dX6_copy_93 : decode cX6_copy 93 = .ok (.aload_n 0, 1) := dk_42 (dk_at dksX6_copy_4 0 rfl rfl)
theorem dX6_copy_94 : decode cX6_copy 94 = .ok (.getfield 56, 3) := dk_180 0 56 (dk_at dksX6_copy_4 1 rfl rfl)
theorem dX6_copy_97 : decode cX6_copy 97 = .ok (.iload_n 2, 1) := dk_28 (dk_at dksX6_copy_4 4 rfl rfl)
theorem dX6_copy_98 : decode cX6_copy 98 = .ok (.iaload, 1) := dk_46 (dk_at dksX6_copy_4 5 rfl rfl)
theorem dX6_copy_99 : decode cX6_copy 99 = .ok (.ifCond .ne 10, 3) := dk_154 0 10 (dk_at dksX6_copy_4 6 rfl rfl)
theorem dX6_copy_102 : decode cX6_copy 102 = .ok (.aload_n 0, 1) := dk_42 (dk_at dksX6_copy_4 9 rfl rfl)
theorem dX6_copy_103 : decode cX6_copy 103 = .ok (.bipush (-3), 2) := dk_16 253 (dk_at dksX6_copy_4 10 rfl rfl)
theorem dX6_copy_105 : decode cX6_copy 105 = .ok (.invokevirtual 127, 3) := dk_182 0 127 (dk_at dksX6_copy_4 12 rfl rfl)
theorem dX6_copy_108 : decode cX6_copy 108 = .ok (.ireturn, 1) := dk_172 (dk_at dksX6_copy_4 15 rfl rfl)
theorem dX6_copy_109 : decode cX6_copy 109 = .ok (.iload 5, 2) := dk_21 5 (dk_at dksX6_copy_4 16 rfl rfl)
theorem dX6_copy_111 : decode cX6_copy 111 = .ok (.ifCond .ge 10, 3) := dk_156 0 10 (dk_at dksX6_copy_4 18 rfl rfl)
theorem dX6_copy_114 : decode cX6_copy 114 = .ok (.aload_n 0, 1) := dk_42 (dk_at dksX6_copy_4 21 rfl rfl)
theorem dX6_copy_115 : decode cX6_copy 115 = .ok (.bipush (-4), 2) := dk_16 252 (dk_at dksX6_copy_4 22 rfl rfl)
theorem dX6_copy_117 : decode cX6_copy 117 = .ok (.invokevirtual 127, 3) := dk_182 0 127 (dk_at dksX6_copy_5 0 rfl rfl)
theorem dX6_copy_120 : decode cX6_copy 120 = .ok (.ireturn, 1) := dk_172 (dk_at dksX6_copy_5 3 rfl rfl)
theorem dX6_copy_121 : decode cX6_copy 121 = .ok (.iload_n 3, 1) := dk_29 (dk_at dksX6_copy_5 4 rfl rfl)
theorem dX6_copy_122 : decode cX6_copy 122 = .ok (.ifCond .lt 35, 3) := dk_155 0 35 (dk_at dksX6_copy_5 5 rfl rfl)
theorem dX6_copy_125 : decode cX6_copy 125 = .ok (.iload 4, 2) := dk_21 4 (dk_at dksX6_copy_5 8 rfl rfl)
theorem dX6_copy_127 : decode cX6_copy 127 = .ok (.ifCond .lt 30, 3) := dk_155 0 30 (dk_at dksX6_copy_5 10 rfl rfl)
theorem dX6_copy_130 : decode cX6_copy 130 = .ok (.iload_n 3, 1) := dk_29 (dk_at dksX6_copy_5 13 rfl rfl)
theorem dX6_copy_131 : decode cX6_copy 131 = .ok (.aload_n 0, 1) := dk_42 (dk_at dksX6_copy_5 14 rfl rfl)
theorem dX6_copy_132 : decode cX6_copy 132 = .ok (.getfield 62, 3) := dk_180 0 62 (dk_at dksX6_copy_5 15 rfl rfl)
theorem dX6_copy_135 : decode cX6_copy 135 = .ok (.iload_n 1, 1) := dk_27 (dk_at dksX6_copy_5 18 rfl rfl)
theorem dX6_copy_136 : decode cX6_copy 136 = .ok (.iaload, 1) := dk_46 (dk_at dksX6_copy_5 19 rfl rfl)
theorem dX6_copy_137 : decode cX6_copy 137 = .ok (.iload 5, 2) := dk_21 5 (dk_at dksX6_copy_5 20 rfl rfl)
theorem dX6_copy_139 : decode cX6_copy 139 = .ok (.isub, 1) := dk_100 (dk_at dksX6_copy_5 22 rfl rfl)
theorem dX6_copy_140 : decode cX6_copy 140 = .ok (.if_icmp .gt 17, 3) := dk_163 0 17 (dk_at dksX6_copy_6 0 rfl rfl)
theorem dX6_copy_143 : decode cX6_copy 143 = .ok (.iload 4, 2) := dk_21 4 (dk_at dksX6_copy_6 3 rfl rfl)
theorem dX6_copy_145 : decode cX6_copy 145 = .ok (.aload_n 0, 1) := dk_42 (dk_at dksX6_copy_6 5 rfl rfl)
theorem dX6_copy_146 : decode cX6_copy 146 = .ok (.getfield 62, 3) := dk_180 0 62 (dk_at dksX6_copy_6 6 rfl rfl)
theorem dX6_copy_149 : decode cX6_copy 149 = .ok (.iload_n 2, 1) := dk_28 (dk_at dksX6_copy_6 9 rfl rfl)
theorem dX6_copy_150 : decode cX6_copy 150 = .ok (.iaload, 1) := dk_46 (dk_at dksX6_copy_6 10 rfl rfl)
theorem dX6_copy_151 : decode cX6_copy 151 = .ok (.iload 5, 2) := dk_21 5 (dk_at dksX6_copy_6 11 rfl rfl)
theorem dX6_copy_153 : decode cX6_copy 153 = .ok (.isub, 1) := dk_100 (dk_at dksX6_copy_6 13 rfl rfl)
theorem dX6_copy_154 : decode cX6_copy 154 = .ok (.if_icmp .le 10, 3) := dk_164 0 10 (dk_at dksX6_copy_6 14 rfl rfl)
theorem dX6_copy_157 : decode cX6_copy 157 = .ok (.aload_n 0, 1) := dk_42 (dk_at dksX6_copy_6 17 rfl rfl)
theorem dX6_copy_158 : decode cX6_copy 158 = .ok (.bipush (-5), 2) := dk_16 251 (dk_at dksX6_copy_6 18 rfl rfl)
theorem dX6_copy_160 : decode cX6_copy 160 = .ok (.invokevirtual 127, 3) := dk_182 0 127 (dk_at dksX6_copy_6 20 rfl rfl)
theorem dX6_copy_163 : decode cX6_copy 163 = .ok (.ireturn, 1) := dk_172 (dk_at dksX6_copy_6 23 rfl rfl)
theorem dX6_copy_164 : decode cX6_copy 164 = .ok (.iconst 0, 1) := dk_3 (dk_at dksX6_copy_7 0 rfl rfl)
theorem dX6_copy_165 : decode cX6_copy 165 = .ok (.istore 6, 2) := dk_54 6 (dk_at dksX6_copy_7 1 rfl rfl)
theorem dX6_copy_167 : decode cX6_copy 167 = .ok (.iload 6, 2) := dk_21 6 (dk_at dksX6_copy_7 3 rfl rfl)
theorem dX6_copy_169 : decode cX6_copy 169 = .ok (.iload 5, 2) := dk_21 5 (dk_at dksX6_copy_7 5 rfl rfl)
theorem dX6_copy_171 : decode cX6_copy 171 = .ok (.if_icmp .ge 31, 3) := dk_162 0 31 (dk_at dksX6_copy_7 7 rfl rfl)
theorem dX6_copy_174 : decode cX6_copy 174 = .ok (.aload_n 0, 1) := dk_42 (dk_at dksX6_copy_7 10 rfl rfl)
theorem dX6_copy_175 : decode cX6_copy 175 = .ok (.getfield 72, 3) := dk_180 0 72 (dk_at dksX6_copy_7 11 rfl rfl)
theorem dX6_copy_178 : decode cX6_copy 178 = .ok (.iload 6, 2) := dk_21 6 (dk_at dksX6_copy_7 14 rfl rfl)
theorem dX6_copy_180 : decode cX6_copy 180 = .ok (.aload_n 0, 1) := dk_42 (dk_at dksX6_copy_7 16 rfl rfl)
theorem dX6_copy_181 : decode cX6_copy 181 = .ok (.getfield 68, 3) := dk_180 0 68 (dk_at dksX6_copy_7 17 rfl rfl)
theorem dX6_copy_184 : decode cX6_copy 184 = .ok (.sipush 160, 3) := dk_17 0 160 (dk_at dksX6_copy_7 20 rfl rfl)
theorem dX6_copy_187 : decode cX6_copy 187 = .ok (.iload_n 1, 1) := dk_27 (dk_at dksX6_copy_7 23 rfl rfl)
theorem dX6_copy_188 : decode cX6_copy 188 = .ok (.imul, 1) := dk_104 (dk_at dksX6_copy_8 0 rfl rfl)
theorem dX6_copy_189 : decode cX6_copy 189 = .ok (.iload_n 3, 1) := dk_29 (dk_at dksX6_copy_8 1 rfl rfl)
theorem dX6_copy_190 : decode cX6_copy 190 = .ok (.iadd, 1) := dk_96 (dk_at dksX6_copy_8 2 rfl rfl)
theorem dX6_copy_191 : decode cX6_copy 191 = .ok (.iload 6, 2) := dk_21 6 (dk_at dksX6_copy_8 3 rfl rfl)
theorem dX6_copy_193 : decode cX6_copy 193 = .ok (.iadd, 1) := dk_96 (dk_at dksX6_copy_8 5 rfl rfl)
theorem dX6_copy_194 : decode cX6_copy 194 = .ok (.laload, 1) := dk_47 (dk_at dksX6_copy_8 6 rfl rfl)
theorem dX6_copy_195 : decode cX6_copy 195 = .ok (.lastore, 1) := dk_80 (dk_at dksX6_copy_8 7 rfl rfl)
theorem dX6_copy_196 : decode cX6_copy 196 = .ok (.iinc 6 1, 3) := dk_132 6 1 (dk_at dksX6_copy_8 8 rfl rfl)
theorem dX6_copy_199 : decode cX6_copy 199 = .ok (.goto (-32), 3) := dk_167 255 224 (dk_at dksX6_copy_8 11 rfl rfl)
theorem dX6_copy_202 : decode cX6_copy 202 = .ok (.iconst 0, 1) := dk_3 (dk_at dksX6_copy_8 14 rfl rfl)
theorem dX6_copy_203 : decode cX6_copy 203 = .ok (.istore 6, 2) := dk_54 6 (dk_at dksX6_copy_8 15 rfl rfl)
theorem dX6_copy_205 : decode cX6_copy 205 = .ok (.iload 6, 2) := dk_21 6 (dk_at dksX6_copy_8 17 rfl rfl)
theorem dX6_copy_207 : decode cX6_copy 207 = .ok (.iload 5, 2) := dk_21 5 (dk_at dksX6_copy_8 19 rfl rfl)
theorem dX6_copy_209 : decode cX6_copy 209 = .ok (.if_icmp .ge 32, 3) := dk_162 0 32 (dk_at dksX6_copy_8 21 rfl rfl)
theorem dX6_copy_212 : decode cX6_copy 212 = .ok (.aload_n 0, 1) := dk_42 (dk_at dksX6_copy_9 0 rfl rfl)
theorem dX6_copy_213 : decode cX6_copy 213 = .ok (.getfield 68, 3) := dk_180 0 68 (dk_at dksX6_copy_9 1 rfl rfl)
theorem dX6_copy_216 : decode cX6_copy 216 = .ok (.sipush 160, 3) := dk_17 0 160 (dk_at dksX6_copy_9 4 rfl rfl)
theorem dX6_copy_219 : decode cX6_copy 219 = .ok (.iload_n 2, 1) := dk_28 (dk_at dksX6_copy_9 7 rfl rfl)
theorem dX6_copy_220 : decode cX6_copy 220 = .ok (.imul, 1) := dk_104 (dk_at dksX6_copy_9 8 rfl rfl)
theorem dX6_copy_221 : decode cX6_copy 221 = .ok (.iload 4, 2) := dk_21 4 (dk_at dksX6_copy_9 9 rfl rfl)
theorem dX6_copy_223 : decode cX6_copy 223 = .ok (.iadd, 1) := dk_96 (dk_at dksX6_copy_9 11 rfl rfl)
theorem dX6_copy_224 : decode cX6_copy 224 = .ok (.iload 6, 2) := dk_21 6 (dk_at dksX6_copy_9 12 rfl rfl)
theorem dX6_copy_226 : decode cX6_copy 226 = .ok (.iadd, 1) := dk_96 (dk_at dksX6_copy_9 14 rfl rfl)
theorem dX6_copy_227 : decode cX6_copy 227 = .ok (.aload_n 0, 1) := dk_42 (dk_at dksX6_copy_9 15 rfl rfl)
theorem dX6_copy_228 : decode cX6_copy 228 = .ok (.getfield 72, 3) := dk_180 0 72 (dk_at dksX6_copy_9 16 rfl rfl)
theorem dX6_copy_231 : decode cX6_copy 231 = .ok (.iload 6, 2) := dk_21 6 (dk_at dksX6_copy_9 19 rfl rfl)
theorem dX6_copy_233 : decode cX6_copy 233 = .ok (.laload, 1) := dk_47 (dk_at dksX6_copy_9 21 rfl rfl)
theorem dX6_copy_234 : decode cX6_copy 234 = .ok (.lastore, 1) := dk_80 (dk_at dksX6_copy_9 22 rfl rfl)
theorem dX6_copy_235 : decode cX6_copy 235 = .ok (.iinc 6 1, 3) := dk_132 6 1 (dk_at dksX6_copy_10 0 rfl rfl)
theorem dX6_copy_238 : decode cX6_copy 238 = .ok (.goto (-33), 3) := dk_167 255 223 (dk_at dksX6_copy_10 3 rfl rfl)
theorem dX6_copy_241 : decode cX6_copy 241 = .ok (.iconst 1, 1) := dk_4 (dk_at dksX6_copy_10 6 rfl rfl)
theorem dX6_copy_242 : decode cX6_copy 242 = .ok (.ireturn, 1) := dk_172 (dk_at dksX6_copy_10 7 rfl rfl)
abbrev cX6_element : ByteArray := prog_23_method_11_code
def yX6_element : MethodName := ⟨RX6, "element", "(II)J"⟩
def dkwX6_element_2 : List UInt8 := [173]
abbrev dktX6_element_2 : List UInt8 := dkwX6_element_2 ++ []
def dkwX6_element_1 : List UInt8 := [180, 0, 62, 27, 46, 162, 0, 18, 42, 180, 0, 68, 17, 0, 160, 27, 104, 28, 96, 47, 167, 0, 4, 9]
abbrev dktX6_element_1 : List UInt8 := dkwX6_element_1 ++ dktX6_element_2
def dkwX6_element_0 : List UInt8 := [42, 27, 182, 0, 123, 153, 0, 42, 42, 180, 0, 56, 27, 46, 4, 160, 0, 32, 28, 155, 0, 28, 28, 42]
abbrev dktX6_element_0 : List UInt8 := dkwX6_element_0 ++ dktX6_element_1
theorem dksX6_element_0 : cX6_element.data.toList.drop 0 = dktX6_element_0 := by decide +kernel
theorem dksX6_element_1 : cX6_element.data.toList.drop 24 = dktX6_element_1 := dk_seg dksX6_element_0 24 rfl rfl
theorem dksX6_element_2 : cX6_element.data.toList.drop 48 = dktX6_element_2 := dk_seg dksX6_element_1 24 rfl rfl
theorem dX6_element_0 : decode cX6_element 0 = .ok (.aload_n 0, 1) := dk_42 (dk_at dksX6_element_0 0 rfl rfl)
theorem dX6_element_1 : decode cX6_element 1 = .ok (.iload_n 1, 1) := dk_27 (dk_at dksX6_element_0 1 rfl rfl)
theorem dX6_element_2 : decode cX6_element 2 = .ok (.invokevirtual 123, 3) := dk_182 0 123 (dk_at dksX6_element_0 2 rfl rfl)
theorem dX6_element_5 : decode cX6_element 5 = .ok (.ifCond .eq 42, 3) := dk_153 0 42 (dk_at dksX6_element_0 5 rfl rfl)
theorem dX6_element_8 : decode cX6_element 8 = .ok (.aload_n 0, 1) := dk_42 (dk_at dksX6_element_0 8 rfl rfl)
theorem dX6_element_9 : decode cX6_element 9 = .ok (.getfield 56, 3) := dk_180 0 56 (dk_at dksX6_element_0 9 rfl rfl)
theorem dX6_element_12 : decode cX6_element 12 = .ok (.iload_n 1, 1) := dk_27 (dk_at dksX6_element_0 12 rfl rfl)
theorem dX6_element_13 : decode cX6_element 13 = .ok (.iaload, 1) := dk_46 (dk_at dksX6_element_0 13 rfl rfl)
theorem dX6_element_14 : decode cX6_element 14 = .ok (.iconst 1, 1) := dk_4 (dk_at dksX6_element_0 14 rfl rfl)
theorem dX6_element_15 : decode cX6_element 15 = .ok (.if_icmp .ne 32, 3) := dk_160 0 32 (dk_at dksX6_element_0 15 rfl rfl)
theorem dX6_element_18 : decode cX6_element 18 = .ok (.iload_n 2, 1) := dk_28 (dk_at dksX6_element_0 18 rfl rfl)
theorem dX6_element_19 : decode cX6_element 19 = .ok (.ifCond .lt 28, 3) := dk_155 0 28 (dk_at dksX6_element_0 19 rfl rfl)
theorem dX6_element_22 : decode cX6_element 22 = .ok (.iload_n 2, 1) := dk_28 (dk_at dksX6_element_0 22 rfl rfl)
theorem dX6_element_23 : decode cX6_element 23 = .ok (.aload_n 0, 1) := dk_42 (dk_at dksX6_element_0 23 rfl rfl)
theorem dX6_element_24 : decode cX6_element 24 = .ok (.getfield 62, 3) := dk_180 0 62 (dk_at dksX6_element_1 0 rfl rfl)
theorem dX6_element_27 : decode cX6_element 27 = .ok (.iload_n 1, 1) := dk_27 (dk_at dksX6_element_1 3 rfl rfl)
theorem dX6_element_28 : decode cX6_element 28 = .ok (.iaload, 1) := dk_46 (dk_at dksX6_element_1 4 rfl rfl)
theorem dX6_element_29 : decode cX6_element 29 = .ok (.if_icmp .ge 18, 3) := dk_162 0 18 (dk_at dksX6_element_1 5 rfl rfl)
theorem dX6_element_32 : decode cX6_element 32 = .ok (.aload_n 0, 1) := dk_42 (dk_at dksX6_element_1 8 rfl rfl)
theorem dX6_element_33 : decode cX6_element 33 = .ok (.getfield 68, 3) := dk_180 0 68 (dk_at dksX6_element_1 9 rfl rfl)
theorem dX6_element_36 : decode cX6_element 36 = .ok (.sipush 160, 3) := dk_17 0 160 (dk_at dksX6_element_1 12 rfl rfl)
theorem dX6_element_39 : decode cX6_element 39 = .ok (.iload_n 1, 1) := dk_27 (dk_at dksX6_element_1 15 rfl rfl)
theorem dX6_element_40 : decode cX6_element 40 = .ok (.imul, 1) := dk_104 (dk_at dksX6_element_1 16 rfl rfl)
theorem dX6_element_41 : decode cX6_element 41 = .ok (.iload_n 2, 1) := dk_28 (dk_at dksX6_element_1 17 rfl rfl)
theorem dX6_element_42 : decode cX6_element 42 = .ok (.iadd, 1) := dk_96 (dk_at dksX6_element_1 18 rfl rfl)
theorem dX6_element_43 : decode cX6_element 43 = .ok (.laload, 1) := dk_47 (dk_at dksX6_element_1 19 rfl rfl)
theorem dX6_element_44 : decode cX6_element 44 = .ok (.goto 4, 3) := dk_167 0 4 (dk_at dksX6_element_1 20 rfl rfl)
theorem dX6_element_47 : decode cX6_element 47 = .ok (.lconst 0, 1) := dk_9 (dk_at dksX6_element_1 23 rfl rfl)
theorem dX6_element_48 : decode cX6_element 48 = .ok (.lreturn, 1) := dk_173 (dk_at dksX6_element_2 0 rfl rfl)
abbrev cX6_show : ByteArray := prog_23_method_12_code
def yX6_show : MethodName := ⟨RX6, "show", "(II)I"⟩
def dkwX6_show_2 : List UInt8 := [27, 28, 79, 28, 2, 160, 0, 7, 3, 167, 0, 4, 4, 172]
abbrev dktX6_show_2 : List UInt8 := dkwX6_show_2 ++ []
def dkwX6_show_1 : List UInt8 := [182, 0, 127, 172, 42, 180, 0, 56, 27, 28, 2, 160, 0, 7, 3, 167, 0, 4, 5, 79, 42, 180, 0, 65]
abbrev dktX6_show_1 : List UInt8 := dkwX6_show_1 ++ dktX6_show_2
def dkwX6_show_0 : List UInt8 := [42, 27, 182, 0, 123, 153, 0, 16, 28, 2, 159, 0, 17, 42, 28, 182, 0, 131, 154, 0, 9, 42, 2]
abbrev dktX6_show_0 : List UInt8 := dkwX6_show_0 ++ dktX6_show_1
theorem dksX6_show_0 : cX6_show.data.toList.drop 0 = dktX6_show_0 := by decide +kernel
theorem dksX6_show_1 : cX6_show.data.toList.drop 23 = dktX6_show_1 := dk_seg dksX6_show_0 23 rfl rfl
theorem dksX6_show_2 : cX6_show.data.toList.drop 47 = dktX6_show_2 := dk_seg dksX6_show_1 24 rfl rfl
theorem dX6_show_0 : decode cX6_show 0 = .ok (.aload_n 0, 1) := dk_42 (dk_at dksX6_show_0 0 rfl rfl)
theorem dX6_show_1 : decode cX6_show 1 = .ok (.iload_n 1, 1) := dk_27 (dk_at dksX6_show_0 1 rfl rfl)
theorem dX6_show_2 : decode cX6_show 2 = .ok (.invokevirtual 123, 3) := dk_182 0 123 (dk_at dksX6_show_0 2 rfl rfl)
theorem dX6_show_5 : decode cX6_show 5 = .ok (.ifCond .eq 16, 3) := dk_153 0 16 (dk_at dksX6_show_0 5 rfl rfl)
theorem dX6_show_8 : decode cX6_show 8 = .ok (.iload_n 2, 1) := dk_28 (dk_at dksX6_show_0 8 rfl rfl)
theorem dX6_show_9 : decode cX6_show 9 = .ok (.iconst (-1), 1) := dk_2 (dk_at dksX6_show_0 9 rfl rfl)
theorem dX6_show_10 : decode cX6_show 10 = .ok (.if_icmp .eq 17, 3) := dk_159 0 17 (dk_at dksX6_show_0 10 rfl rfl)
theorem dX6_show_13 : decode cX6_show 13 = .ok (.aload_n 0, 1) := dk_42 (dk_at dksX6_show_0 13 rfl rfl)
theorem dX6_show_14 : decode cX6_show 14 = .ok (.iload_n 2, 1) := dk_28 (dk_at dksX6_show_0 14 rfl rfl)
theorem dX6_show_15 : decode cX6_show 15 = .ok (.invokevirtual 131, 3) := dk_182 0 131 (dk_at dksX6_show_0 15 rfl rfl)
theorem dX6_show_18 : decode cX6_show 18 = .ok (.ifCond .ne 9, 3) := dk_154 0 9 (dk_at dksX6_show_0 18 rfl rfl)
theorem dX6_show_21 : decode cX6_show 21 = .ok (.aload_n 0, 1) := dk_42 (dk_at dksX6_show_0 21 rfl rfl)
theorem dX6_show_22 : decode cX6_show 22 = .ok (.iconst (-1), 1) := dk_2 (dk_at dksX6_show_0 22 rfl rfl)
theorem dX6_show_23 : decode cX6_show 23 = .ok (.invokevirtual 127, 3) := dk_182 0 127 (dk_at dksX6_show_1 0 rfl rfl)
theorem dX6_show_26 : decode cX6_show 26 = .ok (.ireturn, 1) := dk_172 (dk_at dksX6_show_1 3 rfl rfl)
theorem dX6_show_27 : decode cX6_show 27 = .ok (.aload_n 0, 1) := dk_42 (dk_at dksX6_show_1 4 rfl rfl)
theorem dX6_show_28 : decode cX6_show 28 = .ok (.getfield 56, 3) := dk_180 0 56 (dk_at dksX6_show_1 5 rfl rfl)
theorem dX6_show_31 : decode cX6_show 31 = .ok (.iload_n 1, 1) := dk_27 (dk_at dksX6_show_1 8 rfl rfl)
theorem dX6_show_32 : decode cX6_show 32 = .ok (.iload_n 2, 1) := dk_28 (dk_at dksX6_show_1 9 rfl rfl)
theorem dX6_show_33 : decode cX6_show 33 = .ok (.iconst (-1), 1) := dk_2 (dk_at dksX6_show_1 10 rfl rfl)
theorem dX6_show_34 : decode cX6_show 34 = .ok (.if_icmp .ne 7, 3) := dk_160 0 7 (dk_at dksX6_show_1 11 rfl rfl)
theorem dX6_show_37 : decode cX6_show 37 = .ok (.iconst 0, 1) := dk_3 (dk_at dksX6_show_1 14 rfl rfl)
theorem dX6_show_38 : decode cX6_show 38 = .ok (.goto 4, 3) := dk_167 0 4 (dk_at dksX6_show_1 15 rfl rfl)
theorem dX6_show_41 : decode cX6_show 41 = .ok (.iconst 2, 1) := dk_5 (dk_at dksX6_show_1 18 rfl rfl)
theorem dX6_show_42 : decode cX6_show 42 = .ok (.iastore, 1) := dk_79 (dk_at dksX6_show_1 19 rfl rfl)
theorem dX6_show_43 : decode cX6_show 43 = .ok (.aload_n 0, 1) := dk_42 (dk_at dksX6_show_1 20 rfl rfl)
theorem dX6_show_44 : decode cX6_show 44 = .ok (.getfield 65, 3) := dk_180 0 65 (dk_at dksX6_show_1 21 rfl rfl)
theorem dX6_show_47 : decode cX6_show 47 = .ok (.iload_n 1, 1) := dk_27 (dk_at dksX6_show_2 0 rfl rfl)
theorem dX6_show_48 : decode cX6_show 48 = .ok (.iload_n 2, 1) := dk_28 (dk_at dksX6_show_2 1 rfl rfl)
theorem dX6_show_49 : decode cX6_show 49 = .ok (.iastore, 1) := dk_79 (dk_at dksX6_show_2 2 rfl rfl)
theorem dX6_show_50 : decode cX6_show 50 = .ok (.iload_n 2, 1) := dk_28 (dk_at dksX6_show_2 3 rfl rfl)
theorem dX6_show_51 : decode cX6_show 51 = .ok (.iconst (-1), 1) := dk_2 (dk_at dksX6_show_2 4 rfl rfl)
theorem dX6_show_52 : decode cX6_show 52 = .ok (.if_icmp .ne 7, 3) := dk_160 0 7 (dk_at dksX6_show_2 5 rfl rfl)
theorem dX6_show_55 : decode cX6_show 55 = .ok (.iconst 0, 1) := dk_3 (dk_at dksX6_show_2 8 rfl rfl)
theorem dX6_show_56 : decode cX6_show 56 = .ok (.goto 4, 3) := dk_167 0 4 (dk_at dksX6_show_2 9 rfl rfl)
theorem dX6_show_59 : decode cX6_show 59 = .ok (.iconst 1, 1) := dk_4 (dk_at dksX6_show_2 12 rfl rfl)
theorem dX6_show_60 : decode cX6_show 60 = .ok (.ireturn, 1) := dk_172 (dk_at dksX6_show_2 13 rfl rfl)
abbrev cX6_isChild : ByteArray := prog_23_method_5_code
def yX6_isChild : MethodName := ⟨RX6, "isChild", "(I)Z"⟩
def dkwX6_isChild_0 : List UInt8 := [27, 155, 0, 15, 27, 42, 180, 0, 117, 162, 0, 7, 4, 167, 0, 4, 3, 172]
abbrev dktX6_isChild_0 : List UInt8 := dkwX6_isChild_0 ++ []
theorem dksX6_isChild_0 : cX6_isChild.data.toList.drop 0 = dktX6_isChild_0 := by decide +kernel
theorem dX6_isChild_0 : decode cX6_isChild 0 = .ok (.iload_n 1, 1) := dk_27 (dk_at dksX6_isChild_0 0 rfl rfl)
theorem dX6_isChild_1 : decode cX6_isChild 1 = .ok (.ifCond .lt 15, 3) := dk_155 0 15 (dk_at dksX6_isChild_0 1 rfl rfl)
theorem dX6_isChild_4 : decode cX6_isChild 4 = .ok (.iload_n 1, 1) := dk_27 (dk_at dksX6_isChild_0 4 rfl rfl)
theorem dX6_isChild_5 : decode cX6_isChild 5 = .ok (.aload_n 0, 1) := dk_42 (dk_at dksX6_isChild_0 5 rfl rfl)
theorem dX6_isChild_6 : decode cX6_isChild 6 = .ok (.getfield 117, 3) := dk_180 0 117 (dk_at dksX6_isChild_0 6 rfl rfl)
theorem dX6_isChild_9 : decode cX6_isChild 9 = .ok (.if_icmp .ge 7, 3) := dk_162 0 7 (dk_at dksX6_isChild_0 9 rfl rfl)
theorem dX6_isChild_12 : decode cX6_isChild 12 = .ok (.iconst 1, 1) := dk_4 (dk_at dksX6_isChild_0 12 rfl rfl)
theorem dX6_isChild_13 : decode cX6_isChild 13 = .ok (.goto 4, 3) := dk_167 0 4 (dk_at dksX6_isChild_0 13 rfl rfl)
theorem dX6_isChild_16 : decode cX6_isChild 16 = .ok (.iconst 0, 1) := dk_3 (dk_at dksX6_isChild_0 16 rfl rfl)
theorem dX6_isChild_17 : decode cX6_isChild 17 = .ok (.ireturn, 1) := dk_172 (dk_at dksX6_isChild_0 17 rfl rfl)
abbrev cX6_holds : ByteArray := prog_23_method_13_code
def yX6_holds : MethodName := ⟨RX6, "holds", "(I)I"⟩
def dkwX6_holds_1 : List UInt8 := [46, 4, 160, 0, 15, 16, 100, 42, 180, 0, 59, 27, 46, 96, 167, 0, 9, 42, 180, 0, 65, 27, 46, 172]
abbrev dktX6_holds_1 : List UInt8 := dkwX6_holds_1 ++ []
def dkwX6_holds_0 : List UInt8 := [42, 27, 182, 0, 123, 153, 0, 12, 42, 180, 0, 56, 27, 46, 154, 0, 5, 2, 172, 42, 180, 0, 56, 27]
abbrev dktX6_holds_0 : List UInt8 := dkwX6_holds_0 ++ dktX6_holds_1
theorem dksX6_holds_0 : cX6_holds.data.toList.drop 0 = dktX6_holds_0 := by decide +kernel
theorem dksX6_holds_1 : cX6_holds.data.toList.drop 24 = dktX6_holds_1 := dk_seg dksX6_holds_0 24 rfl rfl
theorem dX6_holds_0 : decode cX6_holds 0 = .ok (.aload_n 0, 1) := dk_42 (dk_at dksX6_holds_0 0 rfl rfl)
theorem dX6_holds_1 : decode cX6_holds 1 = .ok (.iload_n 1, 1) := dk_27 (dk_at dksX6_holds_0 1 rfl rfl)
theorem dX6_holds_2 : decode cX6_holds 2 = .ok (.invokevirtual 123, 3) := dk_182 0 123 (dk_at dksX6_holds_0 2 rfl rfl)
theorem dX6_holds_5 : decode cX6_holds 5 = .ok (.ifCond .eq 12, 3) := dk_153 0 12 (dk_at dksX6_holds_0 5 rfl rfl)
theorem dX6_holds_8 : decode cX6_holds 8 = .ok (.aload_n 0, 1) := dk_42 (dk_at dksX6_holds_0 8 rfl rfl)
theorem dX6_holds_9 : decode cX6_holds 9 = .ok (.getfield 56, 3) := dk_180 0 56 (dk_at dksX6_holds_0 9 rfl rfl)
theorem dX6_holds_12 : decode cX6_holds 12 = .ok (.iload_n 1, 1) := dk_27 (dk_at dksX6_holds_0 12 rfl rfl)
theorem dX6_holds_13 : decode cX6_holds 13 = .ok (.iaload, 1) := dk_46 (dk_at dksX6_holds_0 13 rfl rfl)
theorem dX6_holds_14 : decode cX6_holds 14 = .ok (.ifCond .ne 5, 3) := dk_154 0 5 (dk_at dksX6_holds_0 14 rfl rfl)
theorem dX6_holds_17 : decode cX6_holds 17 = .ok (.iconst (-1), 1) := dk_2 (dk_at dksX6_holds_0 17 rfl rfl)
theorem dX6_holds_18 : decode cX6_holds 18 = .ok (.ireturn, 1) := dk_172 (dk_at dksX6_holds_0 18 rfl rfl)
theorem dX6_holds_19 : decode cX6_holds 19 = .ok (.aload_n 0, 1) := dk_42 (dk_at dksX6_holds_0 19 rfl rfl)
theorem dX6_holds_20 : decode cX6_holds 20 = .ok (.getfield 56, 3) := dk_180 0 56 (dk_at dksX6_holds_0 20 rfl rfl)
theorem dX6_holds_23 : decode cX6_holds 23 = .ok (.iload_n 1, 1) := dk_27 (dk_at dksX6_holds_0 23 rfl rfl)
theorem dX6_holds_24 : decode cX6_holds 24 = .ok (.iaload, 1) := dk_46 (dk_at dksX6_holds_1 0 rfl rfl)
theorem dX6_holds_25 : decode cX6_holds 25 = .ok (.iconst 1, 1) := dk_4 (dk_at dksX6_holds_1 1 rfl rfl)
theorem dX6_holds_26 : decode cX6_holds 26 = .ok (.if_icmp .ne 15, 3) := dk_160 0 15 (dk_at dksX6_holds_1 2 rfl rfl)
theorem dX6_holds_29 : decode cX6_holds 29 = .ok (.bipush 100, 2) := dk_16 100 (dk_at dksX6_holds_1 5 rfl rfl)
theorem dX6_holds_31 : decode cX6_holds 31 = .ok (.aload_n 0, 1) := dk_42 (dk_at dksX6_holds_1 7 rfl rfl)
theorem dX6_holds_32 : decode cX6_holds 32 = .ok (.getfield 59, 3) := dk_180 0 59 (dk_at dksX6_holds_1 8 rfl rfl)
theorem dX6_holds_35 : decode cX6_holds 35 = .ok (.iload_n 1, 1) := dk_27 (dk_at dksX6_holds_1 11 rfl rfl)
theorem dX6_holds_36 : decode cX6_holds 36 = .ok (.iaload, 1) := dk_46 (dk_at dksX6_holds_1 12 rfl rfl)
theorem dX6_holds_37 : decode cX6_holds 37 = .ok (.iadd, 1) := dk_96 (dk_at dksX6_holds_1 13 rfl rfl)
theorem dX6_holds_38 : decode cX6_holds 38 = .ok (.goto 9, 3) := dk_167 0 9 (dk_at dksX6_holds_1 14 rfl rfl)
theorem dX6_holds_41 : decode cX6_holds 41 = .ok (.aload_n 0, 1) := dk_42 (dk_at dksX6_holds_1 17 rfl rfl)
theorem dX6_holds_42 : decode cX6_holds 42 = .ok (.getfield 65, 3) := dk_180 0 65 (dk_at dksX6_holds_1 18 rfl rfl)
theorem dX6_holds_45 : decode cX6_holds 45 = .ok (.iload_n 1, 1) := dk_27 (dk_at dksX6_holds_1 21 rfl rfl)
theorem dX6_holds_46 : decode cX6_holds 46 = .ok (.iaload, 1) := dk_46 (dk_at dksX6_holds_1 22 rfl rfl)
theorem dX6_holds_47 : decode cX6_holds 47 = .ok (.ireturn, 1) := dk_172 (dk_at dksX6_holds_1 23 rfl rfl)
abbrev cX6_says : ByteArray := prog_23_method_14_code
def yX6_says : MethodName := ⟨RX6, "says", "(II)I"⟩
def dkwX6_says_7 : List UInt8 := [42, 180, 0, 38, 29, 46, 172, 42, 182, 0, 138, 172, 42, 182, 0, 142, 172, 42, 182, 0, 145, 172]
abbrev dktX6_says_7 : List UInt8 := dkwX6_says_7 ++ []
def dkwX6_says_6 : List UInt8 := [170, 0, 0, 0, 0, 0, 56, 0, 0, 0, 0, 0, 0, 0, 5, 0, 0, 0, 39, 0, 0, 0, 46, 0, 0, 0, 51, 0, 0, 0, 46, 0, 0, 0, 56, 0, 0, 0, 51]
abbrev dktX6_says_6 : List UInt8 := dkwX6_says_6 ++ dktX6_says_7
def dkwX6_says_5 : List UInt8 := [21, 4, 159, 0, 15, 21, 5, 154, 0, 10, 42, 16, 254, 182, 0, 127, 172, 42, 29, 182, 0, 134, 28]
abbrev dktX6_says_5 : List UInt8 := dkwX6_says_5 ++ dktX6_says_6
def dkwX6_says_4 : List UInt8 := [28, 7, 160, 0, 14, 21, 4, 16, 6, 160, 0, 7, 4, 167, 0, 4, 3, 54, 5, 28, 153, 0, 21, 28]
abbrev dktX6_says_4 : List UInt8 := dkwX6_says_4 ++ dktX6_says_5
def dkwX6_says_3 : List UInt8 := [54, 4, 28, 4, 160, 0, 9, 21, 4, 6, 159, 0, 26, 28, 5, 160, 0, 9, 21, 4, 8, 159, 0, 15]
abbrev dktX6_says_3 : List UInt8 := dkwX6_says_3 ++ dktX6_says_4
def dkwX6_says_2 : List UInt8 := [154, 0, 10, 42, 16, 253, 182, 0, 127, 172, 42, 180, 0, 65, 27, 46, 62, 42, 180, 0, 32, 29, 46]
abbrev dktX6_says_2 : List UInt8 := dkwX6_says_2 ++ dktX6_says_3
def dkwX6_says_1 : List UInt8 := [42, 180, 0, 56, 27, 46, 4, 160, 0, 10, 42, 16, 254, 182, 0, 127, 172, 42, 180, 0, 56, 27, 46]
abbrev dktX6_says_1 : List UInt8 := dkwX6_says_1 ++ dktX6_says_2
def dkwX6_says_0 : List UInt8 := [42, 27, 182, 0, 123, 153, 0, 13, 28, 155, 0, 9, 28, 16, 6, 164, 0, 9, 42, 2, 182, 0, 127, 172]
abbrev dktX6_says_0 : List UInt8 := dkwX6_says_0 ++ dktX6_says_1
theorem dksX6_says_0 : cX6_says.data.toList.drop 0 = dktX6_says_0 := by decide +kernel
theorem dksX6_says_1 : cX6_says.data.toList.drop 24 = dktX6_says_1 := dk_seg dksX6_says_0 24 rfl rfl
theorem dksX6_says_2 : cX6_says.data.toList.drop 47 = dktX6_says_2 := dk_seg dksX6_says_1 23 rfl rfl
theorem dksX6_says_3 : cX6_says.data.toList.drop 70 = dktX6_says_3 := dk_seg dksX6_says_2 23 rfl rfl
theorem dksX6_says_4 : cX6_says.data.toList.drop 94 = dktX6_says_4 := dk_seg dksX6_says_3 24 rfl rfl
theorem dksX6_says_5 : cX6_says.data.toList.drop 118 = dktX6_says_5 := dk_seg dksX6_says_4 24 rfl rfl
theorem dksX6_says_6 : cX6_says.data.toList.drop 141 = dktX6_says_6 := dk_seg dksX6_says_5 23 rfl rfl
theorem dksX6_says_7 : cX6_says.data.toList.drop 180 = dktX6_says_7 := dk_seg dksX6_says_6 39 rfl rfl
theorem dX6_says_0 : decode cX6_says 0 = .ok (.aload_n 0, 1) := dk_42 (dk_at dksX6_says_0 0 rfl rfl)
theorem dX6_says_1 : decode cX6_says 1 = .ok (.iload_n 1, 1) := dk_27 (dk_at dksX6_says_0 1 rfl rfl)
theorem dX6_says_2 : decode cX6_says 2 = .ok (.invokevirtual 123, 3) := dk_182 0 123 (dk_at dksX6_says_0 2 rfl rfl)
theorem dX6_says_5 : decode cX6_says 5 = .ok (.ifCond .eq 13, 3) := dk_153 0 13 (dk_at dksX6_says_0 5 rfl rfl)
theorem dX6_says_8 : decode cX6_says 8 = .ok (.iload_n 2, 1) := dk_28 (dk_at dksX6_says_0 8 rfl rfl)
theorem dX6_says_9 : decode cX6_says 9 = .ok (.ifCond .lt 9, 3) := dk_155 0 9 (dk_at dksX6_says_0 9 rfl rfl)
theorem dX6_says_12 : decode cX6_says 12 = .ok (.iload_n 2, 1) := dk_28 (dk_at dksX6_says_0 12 rfl rfl)
theorem dX6_says_13 : decode cX6_says 13 = .ok (.bipush 6, 2) := dk_16 6 (dk_at dksX6_says_0 13 rfl rfl)
theorem dX6_says_15 : decode cX6_says 15 = .ok (.if_icmp .le 9, 3) := dk_164 0 9 (dk_at dksX6_says_0 15 rfl rfl)
theorem dX6_says_18 : decode cX6_says 18 = .ok (.aload_n 0, 1) := dk_42 (dk_at dksX6_says_0 18 rfl rfl)
theorem dX6_says_19 : decode cX6_says 19 = .ok (.iconst (-1), 1) := dk_2 (dk_at dksX6_says_0 19 rfl rfl)
theorem dX6_says_20 : decode cX6_says 20 = .ok (.invokevirtual 127, 3) := dk_182 0 127 (dk_at dksX6_says_0 20 rfl rfl)
theorem dX6_says_23 : decode cX6_says 23 = .ok (.ireturn, 1) := dk_172 (dk_at dksX6_says_0 23 rfl rfl)
theorem dX6_says_24 : decode cX6_says 24 = .ok (.aload_n 0, 1) := dk_42 (dk_at dksX6_says_1 0 rfl rfl)
theorem dX6_says_25 : decode cX6_says 25 = .ok (.getfield 56, 3) := dk_180 0 56 (dk_at dksX6_says_1 1 rfl rfl)
theorem dX6_says_28 : decode cX6_says 28 = .ok (.iload_n 1, 1) := dk_27 (dk_at dksX6_says_1 4 rfl rfl)
theorem dX6_says_29 : decode cX6_says 29 = .ok (.iaload, 1) := dk_46 (dk_at dksX6_says_1 5 rfl rfl)
theorem dX6_says_30 : decode cX6_says 30 = .ok (.iconst 1, 1) := dk_4 (dk_at dksX6_says_1 6 rfl rfl)
theorem dX6_says_31 : decode cX6_says 31 = .ok (.if_icmp .ne 10, 3) := dk_160 0 10 (dk_at dksX6_says_1 7 rfl rfl)
theorem dX6_says_34 : decode cX6_says 34 = .ok (.aload_n 0, 1) := dk_42 (dk_at dksX6_says_1 10 rfl rfl)
theorem dX6_says_35 : decode cX6_says 35 = .ok (.bipush (-2), 2) := dk_16 254 (dk_at dksX6_says_1 11 rfl rfl)
theorem dX6_says_37 : decode cX6_says 37 = .ok (.invokevirtual 127, 3) := dk_182 0 127 (dk_at dksX6_says_1 13 rfl rfl)
theorem dX6_says_40 : decode cX6_says 40 = .ok (.ireturn, 1) := dk_172 (dk_at dksX6_says_1 16 rfl rfl)
theorem dX6_says_41 : decode cX6_says 41 = .ok (.aload_n 0, 1) := dk_42 (dk_at dksX6_says_1 17 rfl rfl)
theorem dX6_says_42 : decode cX6_says 42 = .ok (.getfield 56, 3) := dk_180 0 56 (dk_at dksX6_says_1 18 rfl rfl)
theorem dX6_says_45 : decode cX6_says 45 = .ok (.iload_n 1, 1) := dk_27 (dk_at dksX6_says_1 21 rfl rfl)
theorem dX6_says_46 : decode cX6_says 46 = .ok (.iaload, 1) := dk_46 (dk_at dksX6_says_1 22 rfl rfl)
theorem dX6_says_47 : decode cX6_says 47 = .ok (.ifCond .ne 10, 3) := dk_154 0 10 (dk_at dksX6_says_2 0 rfl rfl)
theorem dX6_says_50 : decode cX6_says 50 = .ok (.aload_n 0, 1) := dk_42 (dk_at dksX6_says_2 3 rfl rfl)
theorem dX6_says_51 : decode cX6_says 51 = .ok (.bipush (-3), 2) := dk_16 253 (dk_at dksX6_says_2 4 rfl rfl)
theorem dX6_says_53 : decode cX6_says 53 = .ok (.invokevirtual 127, 3) := dk_182 0 127 (dk_at dksX6_says_2 6 rfl rfl)
theorem dX6_says_56 : decode cX6_says 56 = .ok (.ireturn, 1) := dk_172 (dk_at dksX6_says_2 9 rfl rfl)
theorem dX6_says_57 : decode cX6_says 57 = .ok (.aload_n 0, 1) := dk_42 (dk_at dksX6_says_2 10 rfl rfl)
theorem dX6_says_58 : decode cX6_says 58 = .ok (.getfield 65, 3) := dk_180 0 65 (dk_at dksX6_says_2 11 rfl rfl)
theorem dX6_says_61 : decode cX6_says 61 = .ok (.iload_n 1, 1) := dk_27 (dk_at dksX6_says_2 14 rfl rfl)
theorem dX6_says_62 : decode cX6_says 62 = .ok (.iaload, 1) := dk_46 (dk_at dksX6_says_2 15 rfl rfl)
theorem dX6_says_63 : decode cX6_says 63 = .ok (.istore_n 3, 1) := dk_62 (dk_at dksX6_says_2 16 rfl rfl)
theorem dX6_says_64 : decode cX6_says 64 = .ok (.aload_n 0, 1) := dk_42 (dk_at dksX6_says_2 17 rfl rfl)
theorem dX6_says_65 : decode cX6_says 65 = .ok (.getfield 32, 3) := dk_180 0 32 (dk_at dksX6_says_2 18 rfl rfl)
theorem dX6_says_68 : decode cX6_says 68 = .ok (.iload_n 3, 1) := dk_29 (dk_at dksX6_says_2 21 rfl rfl)
theorem dX6_says_69 : decode cX6_says 69 = .ok (.iaload, 1) := dk_46 (dk_at dksX6_says_2 22 rfl rfl)
theorem dX6_says_70 : decode cX6_says 70 = .ok (.istore 4, 2) := dk_54 4 (dk_at dksX6_says_3 0 rfl rfl)
theorem dX6_says_72 : decode cX6_says 72 = .ok (.iload_n 2, 1) := dk_28 (dk_at dksX6_says_3 2 rfl rfl)
theorem dX6_says_73 : decode cX6_says 73 = .ok (.iconst 1, 1) := dk_4 (dk_at dksX6_says_3 3 rfl rfl)
theorem dX6_says_74 : decode cX6_says 74 = .ok (.if_icmp .ne 9, 3) := dk_160 0 9 (dk_at dksX6_says_3 4 rfl rfl)
theorem dX6_says_77 : decode cX6_says 77 = .ok (.iload 4, 2) := dk_21 4 (dk_at dksX6_says_3 7 rfl rfl)
theorem dX6_says_79 : decode cX6_says 79 = .ok (.iconst 3, 1) := dk_6 (dk_at dksX6_says_3 9 rfl rfl)
theorem dX6_says_80 : decode cX6_says 80 = .ok (.if_icmp .eq 26, 3) := dk_159 0 26 (dk_at dksX6_says_3 10 rfl rfl)
theorem dX6_says_83 : decode cX6_says 83 = .ok (.iload_n 2, 1) := dk_28 (dk_at dksX6_says_3 13 rfl rfl)
theorem dX6_says_84 : decode cX6_says 84 = .ok (.iconst 2, 1) := dk_5 (dk_at dksX6_says_3 14 rfl rfl)
theorem dX6_says_85 : decode cX6_says 85 = .ok (.if_icmp .ne 9, 3) := dk_160 0 9 (dk_at dksX6_says_3 15 rfl rfl)
theorem dX6_says_88 : decode cX6_says 88 = .ok (.iload 4, 2) := dk_21 4 (dk_at dksX6_says_3 18 rfl rfl)
theorem dX6_says_90 : decode cX6_says 90 = .ok (.iconst 5, 1) := dk_8 (dk_at dksX6_says_3 20 rfl rfl)
theorem dX6_says_91 : decode cX6_says 91 = .ok (.if_icmp .eq 15, 3) := dk_159 0 15 (dk_at dksX6_says_3 21 rfl rfl)
theorem dX6_says_94 : decode cX6_says 94 = .ok (.iload_n 2, 1) := dk_28 (dk_at dksX6_says_4 0 rfl rfl)
theorem dX6_says_95 : decode cX6_says 95 = .ok (.iconst 4, 1) := dk_7 (dk_at dksX6_says_4 1 rfl rfl)
theorem dX6_says_96 : decode cX6_says 96 = .ok (.if_icmp .ne 14, 3) := dk_160 0 14 (dk_at dksX6_says_4 2 rfl rfl)
theorem dX6_says_99 : decode cX6_says 99 = .ok (.iload 4, 2) := dk_21 4 (dk_at dksX6_says_4 5 rfl rfl)
theorem dX6_says_101 : decode cX6_says 101 = .ok (.bipush 6, 2) := dk_16 6 (dk_at dksX6_says_4 7 rfl rfl)
theorem dX6_says_103 : decode cX6_says 103 = .ok (.if_icmp .ne 7, 3) := dk_160 0 7 (dk_at dksX6_says_4 9 rfl rfl)
theorem dX6_says_106 : decode cX6_says 106 = .ok (.iconst 1, 1) := dk_4 (dk_at dksX6_says_4 12 rfl rfl)
theorem dX6_says_107 : decode cX6_says 107 = .ok (.goto 4, 3) := dk_167 0 4 (dk_at dksX6_says_4 13 rfl rfl)
theorem dX6_says_110 : decode cX6_says 110 = .ok (.iconst 0, 1) := dk_3 (dk_at dksX6_says_4 16 rfl rfl)
theorem dX6_says_111 : decode cX6_says 111 = .ok (.istore 5, 2) := dk_54 5 (dk_at dksX6_says_4 17 rfl rfl)
theorem dX6_says_113 : decode cX6_says 113 = .ok (.iload_n 2, 1) := dk_28 (dk_at dksX6_says_4 19 rfl rfl)
theorem dX6_says_114 : decode cX6_says 114 = .ok (.ifCond .eq 21, 3) := dk_153 0 21 (dk_at dksX6_says_4 20 rfl rfl)
theorem dX6_says_117 : decode cX6_says 117 = .ok (.iload_n 2, 1) := dk_28 (dk_at dksX6_says_4 23 rfl rfl)
theorem dX6_says_118 : decode cX6_says 118 = .ok (.iload 4, 2) := dk_21 4 (dk_at dksX6_says_5 0 rfl rfl)
theorem dX6_says_120 : decode cX6_says 120 = .ok (.if_icmp .eq 15, 3) := dk_159 0 15 (dk_at dksX6_says_5 2 rfl rfl)
theorem dX6_says_123 : decode cX6_says 123 = .ok (.iload 5, 2) := dk_21 5 (dk_at dksX6_says_5 5 rfl rfl)
theorem dX6_says_125 : decode cX6_says 125 = .ok (.ifCond .ne 10, 3) := dk_154 0 10 (dk_at dksX6_says_5 7 rfl rfl)
theorem dX6_says_128 : decode cX6_says 128 = .ok (.aload_n 0, 1) := dk_42 (dk_at dksX6_says_5 10 rfl rfl)
theorem dX6_says_129 : decode cX6_says 129 = .ok (.bipush (-2), 2) := dk_16 254 (dk_at dksX6_says_5 11 rfl rfl)
theorem dX6_says_131 : decode cX6_says 131 = .ok (.invokevirtual 127, 3) := dk_182 0 127 (dk_at dksX6_says_5 13 rfl rfl)
theorem dX6_says_134 : decode cX6_says 134 = .ok (.ireturn, 1) := dk_172 (dk_at dksX6_says_5 16 rfl rfl)
theorem dX6_says_135 : decode cX6_says 135 = .ok (.aload_n 0, 1) := dk_42 (dk_at dksX6_says_5 17 rfl rfl)
theorem dX6_says_136 : decode cX6_says 136 = .ok (.iload_n 3, 1) := dk_29 (dk_at dksX6_says_5 18 rfl rfl)
theorem dX6_says_137 : decode cX6_says 137 = .ok (.invokevirtual 134, 3) := dk_182 0 134 (dk_at dksX6_says_5 19 rfl rfl)
theorem dX6_says_140 : decode cX6_says 140 = .ok (.iload_n 2, 1) := dk_28 (dk_at dksX6_says_5 22 rfl rfl)
theorem dX6_says_141 : decode cX6_says 141 = .ok (.tableswitch 56 0 5 #[39, 46, 51, 46, 56, 51], 39) := by decide +kernel
theorem dX6_says_180 : decode cX6_says 180 = .ok (.aload_n 0, 1) := dk_42 (dk_at dksX6_says_7 0 rfl rfl)
theorem dX6_says_181 : decode cX6_says 181 = .ok (.getfield 38, 3) := dk_180 0 38 (dk_at dksX6_says_7 1 rfl rfl)
theorem dX6_says_184 : decode cX6_says 184 = .ok (.iload_n 3, 1) := dk_29 (dk_at dksX6_says_7 4 rfl rfl)
theorem dX6_says_185 : decode cX6_says 185 = .ok (.iaload, 1) := dk_46 (dk_at dksX6_says_7 5 rfl rfl)
theorem dX6_says_186 : decode cX6_says 186 = .ok (.ireturn, 1) := dk_172 (dk_at dksX6_says_7 6 rfl rfl)
theorem dX6_says_187 : decode cX6_says 187 = .ok (.aload_n 0, 1) := dk_42 (dk_at dksX6_says_7 7 rfl rfl)
theorem dX6_says_188 : decode cX6_says 188 = .ok (.invokevirtual 138, 3) := dk_182 0 138 (dk_at dksX6_says_7 8 rfl rfl)
theorem dX6_says_191 : decode cX6_says 191 = .ok (.ireturn, 1) := dk_172 (dk_at dksX6_says_7 11 rfl rfl)
theorem dX6_says_192 : decode cX6_says 192 = .ok (.aload_n 0, 1) := dk_42 (dk_at dksX6_says_7 12 rfl rfl)
theorem dX6_says_193 : decode cX6_says 193 = .ok (.invokevirtual 142, 3) := dk_182 0 142 (dk_at dksX6_says_7 13 rfl rfl)
theorem dX6_says_196 : decode cX6_says 196 = .ok (.ireturn, 1) := dk_172 (dk_at dksX6_says_7 16 rfl rfl)
theorem dX6_says_197 : decode cX6_says 197 = .ok (.aload_n 0, 1) := dk_42 (dk_at dksX6_says_7 17 rfl rfl)
theorem dX6_says_198 : decode cX6_says 198 = .ok (.invokevirtual 145, 3) := dk_182 0 145 (dk_at dksX6_says_7 18 rfl rfl)
theorem dX6_says_201 : decode cX6_says 201 = .ok (.ireturn, 1) := dk_172 (dk_at dksX6_says_7 21 rfl rfl)
abbrev cX6_puts : ByteArray := prog_23_method_41_code
def yX6_puts : MethodName := ⟨RX6, "puts", "(I)V"⟩
def dkwX6_puts_2 : List UInt8 := [181, 0, 236, 42, 42, 180, 0, 41, 27, 46, 182, 0, 239, 177]
abbrev dktX6_puts_2 : List UInt8 := dkwX6_puts_2 ++ []
def dkwX6_puts_1 : List UInt8 := [180, 0, 38, 27, 46, 181, 0, 230, 42, 42, 180, 0, 44, 27, 46, 181, 0, 233, 42, 42, 180, 0, 170]
abbrev dktX6_puts_1 : List UInt8 := dkwX6_puts_1 ++ dktX6_puts_2
def dkwX6_puts_0 : List UInt8 := [42, 42, 180, 0, 32, 27, 46, 181, 0, 224, 42, 42, 180, 0, 35, 27, 46, 181, 0, 227, 42, 42]
abbrev dktX6_puts_0 : List UInt8 := dkwX6_puts_0 ++ dktX6_puts_1
theorem dksX6_puts_0 : cX6_puts.data.toList.drop 0 = dktX6_puts_0 := by decide +kernel
theorem dksX6_puts_1 : cX6_puts.data.toList.drop 22 = dktX6_puts_1 := dk_seg dksX6_puts_0 22 rfl rfl
theorem dksX6_puts_2 : cX6_puts.data.toList.drop 45 = dktX6_puts_2 := dk_seg dksX6_puts_1 23 rfl rfl
theorem dX6_puts_0 : decode cX6_puts 0 = .ok (.aload_n 0, 1) := dk_42 (dk_at dksX6_puts_0 0 rfl rfl)
theorem dX6_puts_1 : decode cX6_puts 1 = .ok (.aload_n 0, 1) := dk_42 (dk_at dksX6_puts_0 1 rfl rfl)
theorem dX6_puts_2 : decode cX6_puts 2 = .ok (.getfield 32, 3) := dk_180 0 32 (dk_at dksX6_puts_0 2 rfl rfl)
theorem dX6_puts_5 : decode cX6_puts 5 = .ok (.iload_n 1, 1) := dk_27 (dk_at dksX6_puts_0 5 rfl rfl)
theorem dX6_puts_6 : decode cX6_puts 6 = .ok (.iaload, 1) := dk_46 (dk_at dksX6_puts_0 6 rfl rfl)
theorem dX6_puts_7 : decode cX6_puts 7 = .ok (.putfield 224, 3) := dk_181 0 224 (dk_at dksX6_puts_0 7 rfl rfl)
theorem dX6_puts_10 : decode cX6_puts 10 = .ok (.aload_n 0, 1) := dk_42 (dk_at dksX6_puts_0 10 rfl rfl)
theorem dX6_puts_11 : decode cX6_puts 11 = .ok (.aload_n 0, 1) := dk_42 (dk_at dksX6_puts_0 11 rfl rfl)
theorem dX6_puts_12 : decode cX6_puts 12 = .ok (.getfield 35, 3) := dk_180 0 35 (dk_at dksX6_puts_0 12 rfl rfl)
theorem dX6_puts_15 : decode cX6_puts 15 = .ok (.iload_n 1, 1) := dk_27 (dk_at dksX6_puts_0 15 rfl rfl)
theorem dX6_puts_16 : decode cX6_puts 16 = .ok (.iaload, 1) := dk_46 (dk_at dksX6_puts_0 16 rfl rfl)
theorem dX6_puts_17 : decode cX6_puts 17 = .ok (.putfield 227, 3) := dk_181 0 227 (dk_at dksX6_puts_0 17 rfl rfl)
theorem dX6_puts_20 : decode cX6_puts 20 = .ok (.aload_n 0, 1) := dk_42 (dk_at dksX6_puts_0 20 rfl rfl)
theorem dX6_puts_21 : decode cX6_puts 21 = .ok (.aload_n 0, 1) := dk_42 (dk_at dksX6_puts_0 21 rfl rfl)
theorem dX6_puts_22 : decode cX6_puts 22 = .ok (.getfield 38, 3) := dk_180 0 38 (dk_at dksX6_puts_1 0 rfl rfl)
theorem dX6_puts_25 : decode cX6_puts 25 = .ok (.iload_n 1, 1) := dk_27 (dk_at dksX6_puts_1 3 rfl rfl)
theorem dX6_puts_26 : decode cX6_puts 26 = .ok (.iaload, 1) := dk_46 (dk_at dksX6_puts_1 4 rfl rfl)
theorem dX6_puts_27 : decode cX6_puts 27 = .ok (.putfield 230, 3) := dk_181 0 230 (dk_at dksX6_puts_1 5 rfl rfl)
theorem dX6_puts_30 : decode cX6_puts 30 = .ok (.aload_n 0, 1) := dk_42 (dk_at dksX6_puts_1 8 rfl rfl)
theorem dX6_puts_31 : decode cX6_puts 31 = .ok (.aload_n 0, 1) := dk_42 (dk_at dksX6_puts_1 9 rfl rfl)
theorem dX6_puts_32 : decode cX6_puts 32 = .ok (.getfield 44, 3) := dk_180 0 44 (dk_at dksX6_puts_1 10 rfl rfl)
theorem dX6_puts_35 : decode cX6_puts 35 = .ok (.iload_n 1, 1) := dk_27 (dk_at dksX6_puts_1 13 rfl rfl)
theorem dX6_puts_36 : decode cX6_puts 36 = .ok (.iaload, 1) := dk_46 (dk_at dksX6_puts_1 14 rfl rfl)
theorem dX6_puts_37 : decode cX6_puts 37 = .ok (.putfield 233, 3) := dk_181 0 233 (dk_at dksX6_puts_1 15 rfl rfl)
theorem dX6_puts_40 : decode cX6_puts 40 = .ok (.aload_n 0, 1) := dk_42 (dk_at dksX6_puts_1 18 rfl rfl)
theorem dX6_puts_41 : decode cX6_puts 41 = .ok (.aload_n 0, 1) := dk_42 (dk_at dksX6_puts_1 19 rfl rfl)
theorem dX6_puts_42 : decode cX6_puts 42 = .ok (.getfield 170, 3) := dk_180 0 170 (dk_at dksX6_puts_1 20 rfl rfl)
theorem dX6_puts_45 : decode cX6_puts 45 = .ok (.putfield 236, 3) := dk_181 0 236 (dk_at dksX6_puts_2 0 rfl rfl)
theorem dX6_puts_48 : decode cX6_puts 48 = .ok (.aload_n 0, 1) := dk_42 (dk_at dksX6_puts_2 3 rfl rfl)
theorem dX6_puts_49 : decode cX6_puts 49 = .ok (.aload_n 0, 1) := dk_42 (dk_at dksX6_puts_2 4 rfl rfl)
theorem dX6_puts_50 : decode cX6_puts 50 = .ok (.getfield 41, 3) := dk_180 0 41 (dk_at dksX6_puts_2 5 rfl rfl)
theorem dX6_puts_53 : decode cX6_puts 53 = .ok (.iload_n 1, 1) := dk_27 (dk_at dksX6_puts_2 8 rfl rfl)
theorem dX6_puts_54 : decode cX6_puts 54 = .ok (.iaload, 1) := dk_46 (dk_at dksX6_puts_2 9 rfl rfl)
theorem dX6_puts_55 : decode cX6_puts 55 = .ok (.invokevirtual 239, 3) := dk_182 0 239 (dk_at dksX6_puts_2 10 rfl rfl)
theorem dX6_puts_58 : decode cX6_puts 58 = .ok (.return_, 1) := dk_177 (dk_at dksX6_puts_2 13 rfl rfl)
abbrev cX6_putsIn : ByteArray := prog_23_method_42_code
def yX6_putsIn : MethodName := ⟨RX6, "putsIn", "(I)V"⟩
def dkwX6_putsIn_2 : List UInt8 := [181, 0, 248, 177]
abbrev dktX6_putsIn_2 : List UInt8 := dkwX6_putsIn_2 ++ []
def dkwX6_putsIn_1 : List UInt8 := [182, 0, 242, 181, 0, 245, 42, 42, 180, 0, 120, 154, 0, 7, 3, 167, 0, 9, 42, 180, 0, 53, 27, 46]
abbrev dktX6_putsIn_1 : List UInt8 := dkwX6_putsIn_1 ++ dktX6_putsIn_2
def dkwX6_putsIn_0 : List UInt8 := [42, 42, 180, 0, 120, 154, 0, 7, 3, 167, 0, 18, 42, 42, 180, 0, 50, 27, 46, 42, 180, 0, 230, 100]
abbrev dktX6_putsIn_0 : List UInt8 := dkwX6_putsIn_0 ++ dktX6_putsIn_1
theorem dksX6_putsIn_0 : cX6_putsIn.data.toList.drop 0 = dktX6_putsIn_0 := by decide +kernel
theorem dksX6_putsIn_1 : cX6_putsIn.data.toList.drop 24 = dktX6_putsIn_1 := dk_seg dksX6_putsIn_0 24 rfl rfl
theorem dksX6_putsIn_2 : cX6_putsIn.data.toList.drop 48 = dktX6_putsIn_2 := dk_seg dksX6_putsIn_1 24 rfl rfl
theorem dX6_putsIn_0 : decode cX6_putsIn 0 = .ok (.aload_n 0, 1) := dk_42 (dk_at dksX6_putsIn_0 0 rfl rfl)
theorem dX6_putsIn_1 : decode cX6_putsIn 1 = .ok (.aload_n 0, 1) := dk_42 (dk_at dksX6_putsIn_0 1 rfl rfl)
theorem dX6_putsIn_2 : decode cX6_putsIn 2 = .ok (.getfield 120, 3) := dk_180 0 120 (dk_at dksX6_putsIn_0 2 rfl rfl)
theorem dX6_putsIn_5 : decode cX6_putsIn 5 = .ok (.ifCond .ne 7, 3) := dk_154 0 7 (dk_at dksX6_putsIn_0 5 rfl rfl)
theorem dX6_putsIn_8 : decode cX6_putsIn 8 = .ok (.iconst 0, 1) := dk_3 (dk_at dksX6_putsIn_0 8 rfl rfl)
theorem dX6_putsIn_9 : decode cX6_putsIn 9 = .ok (.goto 18, 3) := dk_167 0 18 (dk_at dksX6_putsIn_0 9 rfl rfl)
theorem dX6_putsIn_12 : decode cX6_putsIn 12 = .ok (.aload_n 0, 1) := dk_42 (dk_at dksX6_putsIn_0 12 rfl rfl)
theorem dX6_putsIn_13 : decode cX6_putsIn 13 = .ok (.aload_n 0, 1) := dk_42 (dk_at dksX6_putsIn_0 13 rfl rfl)
theorem dX6_putsIn_14 : decode cX6_putsIn 14 = .ok (.getfield 50, 3) := dk_180 0 50 (dk_at dksX6_putsIn_0 14 rfl rfl)
theorem dX6_putsIn_17 : decode cX6_putsIn 17 = .ok (.iload_n 1, 1) := dk_27 (dk_at dksX6_putsIn_0 17 rfl rfl)
theorem dX6_putsIn_18 : decode cX6_putsIn 18 = .ok (.iaload, 1) := dk_46 (dk_at dksX6_putsIn_0 18 rfl rfl)
theorem dX6_putsIn_19 : decode cX6_putsIn 19 = .ok (.aload_n 0, 1) := dk_42 (dk_at dksX6_putsIn_0 19 rfl rfl)
theorem dX6_putsIn_20 : decode cX6_putsIn 20 = .ok (.getfield 230, 3) := dk_180 0 230 (dk_at dksX6_putsIn_0 20 rfl rfl)
theorem dX6_putsIn_23 : decode cX6_putsIn 23 = .ok (.isub, 1) := dk_100 (dk_at dksX6_putsIn_0 23 rfl rfl)
theorem dX6_putsIn_24 : decode cX6_putsIn 24 = .ok (.invokevirtual 242, 3) := dk_182 0 242 (dk_at dksX6_putsIn_1 0 rfl rfl)
theorem dX6_putsIn_27 : decode cX6_putsIn 27 = .ok (.putfield 245, 3) := dk_181 0 245 (dk_at dksX6_putsIn_1 3 rfl rfl)
theorem dX6_putsIn_30 : decode cX6_putsIn 30 = .ok (.aload_n 0, 1) := dk_42 (dk_at dksX6_putsIn_1 6 rfl rfl)
theorem dX6_putsIn_31 : decode cX6_putsIn 31 = .ok (.aload_n 0, 1) := dk_42 (dk_at dksX6_putsIn_1 7 rfl rfl)
theorem dX6_putsIn_32 : decode cX6_putsIn 32 = .ok (.getfield 120, 3) := dk_180 0 120 (dk_at dksX6_putsIn_1 8 rfl rfl)
theorem dX6_putsIn_35 : decode cX6_putsIn 35 = .ok (.ifCond .ne 7, 3) := dk_154 0 7 (dk_at dksX6_putsIn_1 11 rfl rfl)
theorem dX6_putsIn_38 : decode cX6_putsIn 38 = .ok (.iconst 0, 1) := dk_3 (dk_at dksX6_putsIn_1 14 rfl rfl)
theorem dX6_putsIn_39 : decode cX6_putsIn 39 = .ok (.goto 9, 3) := dk_167 0 9 (dk_at dksX6_putsIn_1 15 rfl rfl)
theorem dX6_putsIn_42 : decode cX6_putsIn 42 = .ok (.aload_n 0, 1) := dk_42 (dk_at dksX6_putsIn_1 18 rfl rfl)
theorem dX6_putsIn_43 : decode cX6_putsIn 43 = .ok (.getfield 53, 3) := dk_180 0 53 (dk_at dksX6_putsIn_1 19 rfl rfl)
theorem dX6_putsIn_46 : decode cX6_putsIn 46 = .ok (.iload_n 1, 1) := dk_27 (dk_at dksX6_putsIn_1 22 rfl rfl)
theorem dX6_putsIn_47 : decode cX6_putsIn 47 = .ok (.iaload, 1) := dk_46 (dk_at dksX6_putsIn_1 23 rfl rfl)
theorem dX6_putsIn_48 : decode cX6_putsIn 48 = .ok (.putfield 248, 3) := dk_181 0 248 (dk_at dksX6_putsIn_2 0 rfl rfl)
theorem dX6_putsIn_51 : decode cX6_putsIn 51 = .ok (.return_, 1) := dk_177 (dk_at dksX6_putsIn_2 3 rfl rfl)
abbrev cX6_abs : ByteArray := prog_23_method_7_code
def yX6_abs : MethodName := ⟨RX6, "abs", "(I)I"⟩
def dkwX6_abs_0 : List UInt8 := [27, 156, 0, 8, 27, 116, 167, 0, 4, 27, 172]
abbrev dktX6_abs_0 : List UInt8 := dkwX6_abs_0 ++ []
theorem dksX6_abs_0 : cX6_abs.data.toList.drop 0 = dktX6_abs_0 := by decide +kernel
theorem dX6_abs_0 : decode cX6_abs 0 = .ok (.iload_n 1, 1) := dk_27 (dk_at dksX6_abs_0 0 rfl rfl)
theorem dX6_abs_1 : decode cX6_abs 1 = .ok (.ifCond .ge 8, 3) := dk_156 0 8 (dk_at dksX6_abs_0 1 rfl rfl)
theorem dX6_abs_4 : decode cX6_abs 4 = .ok (.iload_n 1, 1) := dk_27 (dk_at dksX6_abs_0 4 rfl rfl)
theorem dX6_abs_5 : decode cX6_abs 5 = .ok (.ineg, 1) := dk_116 (dk_at dksX6_abs_0 5 rfl rfl)
theorem dX6_abs_6 : decode cX6_abs 6 = .ok (.goto 4, 3) := dk_167 0 4 (dk_at dksX6_abs_0 6 rfl rfl)
theorem dX6_abs_9 : decode cX6_abs 9 = .ok (.iload_n 1, 1) := dk_27 (dk_at dksX6_abs_0 9 rfl rfl)
theorem dX6_abs_10 : decode cX6_abs 10 = .ok (.ireturn, 1) := dk_172 (dk_at dksX6_abs_0 10 rfl rfl)
abbrev cX6_puff : ByteArray := prog_23_method_45_code
def yX6_puff : MethodName := ⟨RX6, "puff", "()I"⟩
def dkwX6_puff_2 : List UInt8 := [4, 172, 7, 172, 3, 172, 6, 172, 8, 172, 5, 172]
abbrev dktX6_puff_2 : List UInt8 := dkwX6_puff_2 ++ []
def dkwX6_puff_1 : List UInt8 := [170, 0, 0, 0, 0, 0, 0, 46, 0, 0, 0, 1, 0, 0, 0, 5, 0, 0, 0, 36, 0, 0, 0, 38, 0, 0, 0, 40, 0, 0, 0, 42, 0, 0, 0, 44]
abbrev dktX6_puff_1 : List UInt8 := dkwX6_puff_1 ++ dktX6_puff_2
def dkwX6_puff_0 : List UInt8 := [42, 180, 0, 224]
abbrev dktX6_puff_0 : List UInt8 := dkwX6_puff_0 ++ dktX6_puff_1
theorem dksX6_puff_0 : cX6_puff.data.toList.drop 0 = dktX6_puff_0 := by decide +kernel
theorem dksX6_puff_1 : cX6_puff.data.toList.drop 4 = dktX6_puff_1 := dk_seg dksX6_puff_0 4 rfl rfl
theorem dksX6_puff_2 : cX6_puff.data.toList.drop 40 = dktX6_puff_2 := dk_seg dksX6_puff_1 36 rfl rfl
theorem dX6_puff_0 : decode cX6_puff 0 = .ok (.aload_n 0, 1) := dk_42 (dk_at dksX6_puff_0 0 rfl rfl)
theorem dX6_puff_1 : decode cX6_puff 1 = .ok (.getfield 224, 3) := dk_180 0 224 (dk_at dksX6_puff_0 1 rfl rfl)
theorem dX6_puff_4 : decode cX6_puff 4 = .ok (.tableswitch 46 1 5 #[36, 38, 40, 42, 44], 36) := by decide +kernel
theorem dX6_puff_40 : decode cX6_puff 40 = .ok (.iconst 1, 1) := dk_4 (dk_at dksX6_puff_2 0 rfl rfl)
theorem dX6_puff_41 : decode cX6_puff 41 = .ok (.ireturn, 1) := dk_172 (dk_at dksX6_puff_2 1 rfl rfl)
theorem dX6_puff_42 : decode cX6_puff 42 = .ok (.iconst 4, 1) := dk_7 (dk_at dksX6_puff_2 2 rfl rfl)
theorem dX6_puff_43 : decode cX6_puff 43 = .ok (.ireturn, 1) := dk_172 (dk_at dksX6_puff_2 3 rfl rfl)
theorem dX6_puff_44 : decode cX6_puff 44 = .ok (.iconst 0, 1) := dk_3 (dk_at dksX6_puff_2 4 rfl rfl)
theorem dX6_puff_45 : decode cX6_puff 45 = .ok (.ireturn, 1) := dk_172 (dk_at dksX6_puff_2 5 rfl rfl)
theorem dX6_puff_46 : decode cX6_puff 46 = .ok (.iconst 3, 1) := dk_6 (dk_at dksX6_puff_2 6 rfl rfl)
theorem dX6_puff_47 : decode cX6_puff 47 = .ok (.ireturn, 1) := dk_172 (dk_at dksX6_puff_2 7 rfl rfl)
theorem dX6_puff_48 : decode cX6_puff 48 = .ok (.iconst 5, 1) := dk_8 (dk_at dksX6_puff_2 8 rfl rfl)
theorem dX6_puff_49 : decode cX6_puff 49 = .ok (.ireturn, 1) := dk_172 (dk_at dksX6_puff_2 9 rfl rfl)
theorem dX6_puff_50 : decode cX6_puff 50 = .ok (.iconst 2, 1) := dk_5 (dk_at dksX6_puff_2 10 rfl rfl)
theorem dX6_puff_51 : decode cX6_puff 51 = .ok (.ireturn, 1) := dk_172 (dk_at dksX6_puff_2 11 rfl rfl)
abbrev cX6_stride : ByteArray := prog_23_method_44_code
def yX6_stride : MethodName := ⟨RX6, "stride", "()I"⟩
def dkwX6_stride_4 : List UInt8 := [180, 0, 227, 96, 172, 42, 42, 180, 0, 230, 42, 180, 0, 245, 100, 182, 0, 251, 172, 42, 180, 0, 230, 172]
abbrev dktX6_stride_4 : List UInt8 := dkwX6_stride_4 ++ []
def dkwX6_stride_3 : List UInt8 := [5, 108, 172, 42, 42, 180, 0, 230, 4, 96, 42, 180, 0, 245, 100, 182, 0, 251, 172, 42, 180, 0, 230, 42]
abbrev dktX6_stride_3 : List UInt8 := dkwX6_stride_3 ++ dktX6_stride_4
def dkwX6_stride_2 : List UInt8 := [42, 42, 180, 0, 230, 4, 100, 182, 0, 251, 172, 42, 180, 0, 230, 5, 96, 172, 42, 180, 0, 230, 4, 96]
abbrev dktX6_stride_2 : List UInt8 := dkwX6_stride_2 ++ dktX6_stride_3
def dkwX6_stride_1 : List UInt8 := [170, 0, 0, 0, 0, 0, 0, 107, 0, 0, 0, 1, 0, 0, 0, 6, 0, 0, 0, 40, 0, 0, 0, 51, 0, 0, 0, 58, 0, 0, 0, 67, 0, 0, 0, 83, 0, 0, 0, 93]
abbrev dktX6_stride_1 : List UInt8 := dkwX6_stride_1 ++ dktX6_stride_2
def dkwX6_stride_0 : List UInt8 := [42, 180, 0, 224]
abbrev dktX6_stride_0 : List UInt8 := dkwX6_stride_0 ++ dktX6_stride_1
theorem dksX6_stride_0 : cX6_stride.data.toList.drop 0 = dktX6_stride_0 := by decide +kernel
theorem dksX6_stride_1 : cX6_stride.data.toList.drop 4 = dktX6_stride_1 := dk_seg dksX6_stride_0 4 rfl rfl
theorem dksX6_stride_2 : cX6_stride.data.toList.drop 44 = dktX6_stride_2 := dk_seg dksX6_stride_1 40 rfl rfl
theorem dksX6_stride_3 : cX6_stride.data.toList.drop 68 = dktX6_stride_3 := dk_seg dksX6_stride_2 24 rfl rfl
theorem dksX6_stride_4 : cX6_stride.data.toList.drop 92 = dktX6_stride_4 := dk_seg dksX6_stride_3 24 rfl rfl
theorem dX6_stride_0 : decode cX6_stride 0 = .ok (.aload_n 0, 1) := dk_42 (dk_at dksX6_stride_0 0 rfl rfl)
theorem dX6_stride_1 : decode cX6_stride 1 = .ok (.getfield 224, 3) := dk_180 0 224 (dk_at dksX6_stride_0 1 rfl rfl)
theorem dX6_stride_4 : decode cX6_stride 4 = .ok (.tableswitch 107 1 6 #[40, 51, 58, 67, 83, 93], 40) := by decide +kernel
theorem dX6_stride_44 : decode cX6_stride 44 = .ok (.aload_n 0, 1) := dk_42 (dk_at dksX6_stride_2 0 rfl rfl)
theorem dX6_stride_45 : decode cX6_stride 45 = .ok (.aload_n 0, 1) := dk_42 (dk_at dksX6_stride_2 1 rfl rfl)
theorem dX6_stride_46 : decode cX6_stride 46 = .ok (.getfield 230, 3) := dk_180 0 230 (dk_at dksX6_stride_2 2 rfl rfl)
theorem dX6_stride_49 : decode cX6_stride 49 = .ok (.iconst 1, 1) := dk_4 (dk_at dksX6_stride_2 5 rfl rfl)
theorem dX6_stride_50 : decode cX6_stride 50 = .ok (.isub, 1) := dk_100 (dk_at dksX6_stride_2 6 rfl rfl)
theorem dX6_stride_51 : decode cX6_stride 51 = .ok (.invokevirtual 251, 3) := dk_182 0 251 (dk_at dksX6_stride_2 7 rfl rfl)
theorem dX6_stride_54 : decode cX6_stride 54 = .ok (.ireturn, 1) := dk_172 (dk_at dksX6_stride_2 10 rfl rfl)
theorem dX6_stride_55 : decode cX6_stride 55 = .ok (.aload_n 0, 1) := dk_42 (dk_at dksX6_stride_2 11 rfl rfl)
theorem dX6_stride_56 : decode cX6_stride 56 = .ok (.getfield 230, 3) := dk_180 0 230 (dk_at dksX6_stride_2 12 rfl rfl)
theorem dX6_stride_59 : decode cX6_stride 59 = .ok (.iconst 2, 1) := dk_5 (dk_at dksX6_stride_2 15 rfl rfl)
theorem dX6_stride_60 : decode cX6_stride 60 = .ok (.iadd, 1) := dk_96 (dk_at dksX6_stride_2 16 rfl rfl)
theorem dX6_stride_61 : decode cX6_stride 61 = .ok (.ireturn, 1) := dk_172 (dk_at dksX6_stride_2 17 rfl rfl)
theorem dX6_stride_62 : decode cX6_stride 62 = .ok (.aload_n 0, 1) := dk_42 (dk_at dksX6_stride_2 18 rfl rfl)
theorem dX6_stride_63 : decode cX6_stride 63 = .ok (.getfield 230, 3) := dk_180 0 230 (dk_at dksX6_stride_2 19 rfl rfl)
theorem dX6_stride_66 : decode cX6_stride 66 = .ok (.iconst 1, 1) := dk_4 (dk_at dksX6_stride_2 22 rfl rfl)
theorem dX6_stride_67 : decode cX6_stride 67 = .ok (.iadd, 1) := dk_96 (dk_at dksX6_stride_2 23 rfl rfl)
theorem dX6_stride_68 : decode cX6_stride 68 = .ok (.iconst 2, 1) := dk_5 (dk_at dksX6_stride_3 0 rfl rfl)
theorem dX6_stride_69 : decode cX6_stride 69 = .ok (.idiv, 1) := dk_108 (dk_at dksX6_stride_3 1 rfl rfl)
theorem dX6_stride_70 : decode cX6_stride 70 = .ok (.ireturn, 1) := dk_172 (dk_at dksX6_stride_3 2 rfl rfl)
theorem dX6_stride_71 : decode cX6_stride 71 = .ok (.aload_n 0, 1) := dk_42 (dk_at dksX6_stride_3 3 rfl rfl)
theorem dX6_stride_72 : decode cX6_stride 72 = .ok (.aload_n 0, 1) := dk_42 (dk_at dksX6_stride_3 4 rfl rfl)
theorem dX6_stride_73 : decode cX6_stride 73 = .ok (.getfield 230, 3) := dk_180 0 230 (dk_at dksX6_stride_3 5 rfl rfl)
theorem dX6_stride_76 : decode cX6_stride 76 = .ok (.iconst 1, 1) := dk_4 (dk_at dksX6_stride_3 8 rfl rfl)
theorem dX6_stride_77 : decode cX6_stride 77 = .ok (.iadd, 1) := dk_96 (dk_at dksX6_stride_3 9 rfl rfl)
theorem dX6_stride_78 : decode cX6_stride 78 = .ok (.aload_n 0, 1) := dk_42 (dk_at dksX6_stride_3 10 rfl rfl)
theorem dX6_stride_79 : decode cX6_stride 79 = .ok (.getfield 245, 3) := dk_180 0 245 (dk_at dksX6_stride_3 11 rfl rfl)
theorem dX6_stride_82 : decode cX6_stride 82 = .ok (.isub, 1) := dk_100 (dk_at dksX6_stride_3 14 rfl rfl)
theorem dX6_stride_83 : decode cX6_stride 83 = .ok (.invokevirtual 251, 3) := dk_182 0 251 (dk_at dksX6_stride_3 15 rfl rfl)
theorem dX6_stride_86 : decode cX6_stride 86 = .ok (.ireturn, 1) := dk_172 (dk_at dksX6_stride_3 18 rfl rfl)
theorem dX6_stride_87 : decode cX6_stride 87 = .ok (.aload_n 0, 1) := dk_42 (dk_at dksX6_stride_3 19 rfl rfl)
theorem dX6_stride_88 : decode cX6_stride 88 = .ok (.getfield 230, 3) := dk_180 0 230 (dk_at dksX6_stride_3 20 rfl rfl)
theorem dX6_stride_91 : decode cX6_stride 91 = .ok (.aload_n 0, 1) := dk_42 (dk_at dksX6_stride_3 23 rfl rfl)
theorem dX6_stride_92 : decode cX6_stride 92 = .ok (.getfield 227, 3) := dk_180 0 227 (dk_at dksX6_stride_4 0 rfl rfl)
theorem dX6_stride_95 : decode cX6_stride 95 = .ok (.iadd, 1) := dk_96 (dk_at dksX6_stride_4 3 rfl rfl)
theorem dX6_stride_96 : decode cX6_stride 96 = .ok (.ireturn, 1) := dk_172 (dk_at dksX6_stride_4 4 rfl rfl)
theorem dX6_stride_97 : decode cX6_stride 97 = .ok (.aload_n 0, 1) := dk_42 (dk_at dksX6_stride_4 5 rfl rfl)
theorem dX6_stride_98 : decode cX6_stride 98 = .ok (.aload_n 0, 1) := dk_42 (dk_at dksX6_stride_4 6 rfl rfl)
theorem dX6_stride_99 : decode cX6_stride 99 = .ok (.getfield 230, 3) := dk_180 0 230 (dk_at dksX6_stride_4 7 rfl rfl)
theorem dX6_stride_102 : decode cX6_stride 102 = .ok (.aload_n 0, 1) := dk_42 (dk_at dksX6_stride_4 10 rfl rfl)
theorem dX6_stride_103 : decode cX6_stride 103 = .ok (.getfield 245, 3) := dk_180 0 245 (dk_at dksX6_stride_4 11 rfl rfl)
theorem dX6_stride_106 : decode cX6_stride 106 = .ok (.isub, 1) := dk_100 (dk_at dksX6_stride_4 14 rfl rfl)
theorem dX6_stride_107 : decode cX6_stride 107 = .ok (.invokevirtual 251, 3) := dk_182 0 251 (dk_at dksX6_stride_4 15 rfl rfl)
theorem dX6_stride_110 : decode cX6_stride 110 = .ok (.ireturn, 1) := dk_172 (dk_at dksX6_stride_4 18 rfl rfl)
theorem dX6_stride_111 : decode cX6_stride 111 = .ok (.aload_n 0, 1) := dk_42 (dk_at dksX6_stride_4 19 rfl rfl)
theorem dX6_stride_112 : decode cX6_stride 112 = .ok (.getfield 230, 3) := dk_180 0 230 (dk_at dksX6_stride_4 20 rfl rfl)
theorem dX6_stride_115 : decode cX6_stride 115 = .ok (.ireturn, 1) := dk_172 (dk_at dksX6_stride_4 23 rfl rfl)
abbrev cX6_one : ByteArray := prog_23_method_43_code
def yX6_one : MethodName := ⟨RX6, "one", "(I)I"⟩
def dkwX6_one_0 : List UInt8 := [27, 4, 162, 0, 7, 4, 167, 0, 4, 27, 172]
abbrev dktX6_one_0 : List UInt8 := dkwX6_one_0 ++ []
theorem dksX6_one_0 : cX6_one.data.toList.drop 0 = dktX6_one_0 := by decide +kernel
theorem dX6_one_0 : decode cX6_one 0 = .ok (.iload_n 1, 1) := dk_27 (dk_at dksX6_one_0 0 rfl rfl)
theorem dX6_one_1 : decode cX6_one 1 = .ok (.iconst 1, 1) := dk_4 (dk_at dksX6_one_0 1 rfl rfl)
theorem dX6_one_2 : decode cX6_one 2 = .ok (.if_icmp .ge 7, 3) := dk_162 0 7 (dk_at dksX6_one_0 2 rfl rfl)
theorem dX6_one_5 : decode cX6_one 5 = .ok (.iconst 1, 1) := dk_4 (dk_at dksX6_one_0 5 rfl rfl)
theorem dX6_one_6 : decode cX6_one 6 = .ok (.goto 4, 3) := dk_167 0 4 (dk_at dksX6_one_0 6 rfl rfl)
theorem dX6_one_9 : decode cX6_one 9 = .ok (.iload_n 1, 1) := dk_27 (dk_at dksX6_one_0 9 rfl rfl)
theorem dX6_one_10 : decode cX6_one 10 = .ok (.ireturn, 1) := dk_172 (dk_at dksX6_one_0 10 rfl rfl)
abbrev cX6_risk : ByteArray := prog_23_method_46_code
def yX6_risk : MethodName := ⟨RX6, "risk", "()I"⟩
def dkwX6_risk_1 : List UInt8 := [159, 0, 12, 42, 180, 0, 224, 16, 6, 160, 0, 9, 27, 5, 108, 167, 0, 4, 27, 172]
abbrev dktX6_risk_1 : List UInt8 := dkwX6_risk_1 ++ []
def dkwX6_risk_0 : List UInt8 := [8, 42, 180, 0, 245, 104, 6, 42, 180, 0, 248, 104, 96, 42, 182, 0, 142, 96, 60, 42, 180, 0, 224, 7]
abbrev dktX6_risk_0 : List UInt8 := dkwX6_risk_0 ++ dktX6_risk_1
theorem dksX6_risk_0 : cX6_risk.data.toList.drop 0 = dktX6_risk_0 := by decide +kernel
theorem dksX6_risk_1 : cX6_risk.data.toList.drop 24 = dktX6_risk_1 := dk_seg dksX6_risk_0 24 rfl rfl
theorem dX6_risk_0 : decode cX6_risk 0 = .ok (.iconst 5, 1) := dk_8 (dk_at dksX6_risk_0 0 rfl rfl)
theorem dX6_risk_1 : decode cX6_risk 1 = .ok (.aload_n 0, 1) := dk_42 (dk_at dksX6_risk_0 1 rfl rfl)
theorem dX6_risk_2 : decode cX6_risk 2 = .ok (.getfield 245, 3) := dk_180 0 245 (dk_at dksX6_risk_0 2 rfl rfl)
theorem dX6_risk_5 : decode cX6_risk 5 = .ok (.imul, 1) := dk_104 (dk_at dksX6_risk_0 5 rfl rfl)
theorem dX6_risk_6 : decode cX6_risk 6 = .ok (.iconst 3, 1) := dk_6 (dk_at dksX6_risk_0 6 rfl rfl)
theorem dX6_risk_7 : decode cX6_risk 7 = .ok (.aload_n 0, 1) := dk_42 (dk_at dksX6_risk_0 7 rfl rfl)
theorem dX6_risk_8 : decode cX6_risk 8 = .ok (.getfield 248, 3) := dk_180 0 248 (dk_at dksX6_risk_0 8 rfl rfl)
theorem dX6_risk_11 : decode cX6_risk 11 = .ok (.imul, 1) := dk_104 (dk_at dksX6_risk_0 11 rfl rfl)
theorem dX6_risk_12 : decode cX6_risk 12 = .ok (.iadd, 1) := dk_96 (dk_at dksX6_risk_0 12 rfl rfl)
theorem dX6_risk_13 : decode cX6_risk 13 = .ok (.aload_n 0, 1) := dk_42 (dk_at dksX6_risk_0 13 rfl rfl)
theorem dX6_risk_14 : decode cX6_risk 14 = .ok (.invokevirtual 142, 3) := dk_182 0 142 (dk_at dksX6_risk_0 14 rfl rfl)
theorem dX6_risk_17 : decode cX6_risk 17 = .ok (.iadd, 1) := dk_96 (dk_at dksX6_risk_0 17 rfl rfl)
theorem dX6_risk_18 : decode cX6_risk 18 = .ok (.istore_n 1, 1) := dk_60 (dk_at dksX6_risk_0 18 rfl rfl)
theorem dX6_risk_19 : decode cX6_risk 19 = .ok (.aload_n 0, 1) := dk_42 (dk_at dksX6_risk_0 19 rfl rfl)
theorem dX6_risk_20 : decode cX6_risk 20 = .ok (.getfield 224, 3) := dk_180 0 224 (dk_at dksX6_risk_0 20 rfl rfl)
theorem dX6_risk_23 : decode cX6_risk 23 = .ok (.iconst 4, 1) := dk_7 (dk_at dksX6_risk_0 23 rfl rfl)
theorem dX6_risk_24 : decode cX6_risk 24 = .ok (.if_icmp .eq 12, 3) := dk_159 0 12 (dk_at dksX6_risk_1 0 rfl rfl)
theorem dX6_risk_27 : decode cX6_risk 27 = .ok (.aload_n 0, 1) := dk_42 (dk_at dksX6_risk_1 3 rfl rfl)
theorem dX6_risk_28 : decode cX6_risk 28 = .ok (.getfield 224, 3) := dk_180 0 224 (dk_at dksX6_risk_1 4 rfl rfl)
theorem dX6_risk_31 : decode cX6_risk 31 = .ok (.bipush 6, 2) := dk_16 6 (dk_at dksX6_risk_1 7 rfl rfl)
theorem dX6_risk_33 : decode cX6_risk 33 = .ok (.if_icmp .ne 9, 3) := dk_160 0 9 (dk_at dksX6_risk_1 9 rfl rfl)
theorem dX6_risk_36 : decode cX6_risk 36 = .ok (.iload_n 1, 1) := dk_27 (dk_at dksX6_risk_1 12 rfl rfl)
theorem dX6_risk_37 : decode cX6_risk 37 = .ok (.iconst 2, 1) := dk_5 (dk_at dksX6_risk_1 13 rfl rfl)
theorem dX6_risk_38 : decode cX6_risk 38 = .ok (.idiv, 1) := dk_108 (dk_at dksX6_risk_1 14 rfl rfl)
theorem dX6_risk_39 : decode cX6_risk 39 = .ok (.goto 4, 3) := dk_167 0 4 (dk_at dksX6_risk_1 15 rfl rfl)
theorem dX6_risk_42 : decode cX6_risk 42 = .ok (.iload_n 1, 1) := dk_27 (dk_at dksX6_risk_1 18 rfl rfl)
theorem dX6_risk_43 : decode cX6_risk 43 = .ok (.ireturn, 1) := dk_172 (dk_at dksX6_risk_1 19 rfl rfl)
abbrev cX6_child : ByteArray := prog_23_method_19_code
def yX6_child : MethodName := ⟨RX6, "child", "(III)I"⟩
def dkwX6_child_3 : List UInt8 := [172]
abbrev dktX6_child_3 : List UInt8 := dkwX6_child_3 ++ []
def dkwX6_child_2 : List UInt8 := [180, 0, 117, 16, 8, 160, 0, 12, 42, 16, 249, 182, 0, 127, 167, 0, 10, 42, 27, 28, 29, 182, 0, 148]
abbrev dktX6_child_2 : List UInt8 := dkwX6_child_2 ++ dktX6_child_3
def dkwX6_child_1 : List UInt8 := [163, 0, 14, 29, 4, 161, 0, 9, 29, 16, 9, 164, 0, 10, 42, 16, 250, 182, 0, 127, 172, 42]
abbrev dktX6_child_1 : List UInt8 := dkwX6_child_1 ++ dktX6_child_2
def dkwX6_child_0 : List UInt8 := [27, 155, 0, 9, 27, 16, 6, 164, 0, 9, 42, 2, 182, 0, 127, 172, 28, 155, 0, 20, 28, 16, 9]
abbrev dktX6_child_0 : List UInt8 := dkwX6_child_0 ++ dktX6_child_1
theorem dksX6_child_0 : cX6_child.data.toList.drop 0 = dktX6_child_0 := by decide +kernel
theorem dksX6_child_1 : cX6_child.data.toList.drop 23 = dktX6_child_1 := dk_seg dksX6_child_0 23 rfl rfl
theorem dksX6_child_2 : cX6_child.data.toList.drop 45 = dktX6_child_2 := dk_seg dksX6_child_1 22 rfl rfl
theorem dksX6_child_3 : cX6_child.data.toList.drop 69 = dktX6_child_3 := dk_seg dksX6_child_2 24 rfl rfl
theorem dX6_child_0 : decode cX6_child 0 = .ok (.iload_n 1, 1) := dk_27 (dk_at dksX6_child_0 0 rfl rfl)
theorem dX6_child_1 : decode cX6_child 1 = .ok (.ifCond .lt 9, 3) := dk_155 0 9 (dk_at dksX6_child_0 1 rfl rfl)
theorem dX6_child_4 : decode cX6_child 4 = .ok (.iload_n 1, 1) := dk_27 (dk_at dksX6_child_0 4 rfl rfl)
theorem dX6_child_5 : decode cX6_child 5 = .ok (.bipush 6, 2) := dk_16 6 (dk_at dksX6_child_0 5 rfl rfl)
theorem dX6_child_7 : decode cX6_child 7 = .ok (.if_icmp .le 9, 3) := dk_164 0 9 (dk_at dksX6_child_0 7 rfl rfl)
theorem dX6_child_10 : decode cX6_child 10 = .ok (.aload_n 0, 1) := dk_42 (dk_at dksX6_child_0 10 rfl rfl)
theorem dX6_child_11 : decode cX6_child 11 = .ok (.iconst (-1), 1) := dk_2 (dk_at dksX6_child_0 11 rfl rfl)
theorem dX6_child_12 : decode cX6_child 12 = .ok (.invokevirtual 127, 3) := dk_182 0 127 (dk_at dksX6_child_0 12 rfl rfl)
theorem dX6_child_15 : decode cX6_child 15 = .ok (.ireturn, 1) := dk_172 (dk_at dksX6_child_0 15 rfl rfl)
theorem dX6_child_16 : decode cX6_child 16 = .ok (.iload_n 2, 1) := dk_28 (dk_at dksX6_child_0 16 rfl rfl)
theorem dX6_child_17 : decode cX6_child 17 = .ok (.ifCond .lt 20, 3) := dk_155 0 20 (dk_at dksX6_child_0 17 rfl rfl)
theorem dX6_child_20 : decode cX6_child 20 = .ok (.iload_n 2, 1) := dk_28 (dk_at dksX6_child_0 20 rfl rfl)
theorem dX6_child_21 : decode cX6_child 21 = .ok (.bipush 9, 2) := dk_16 9 (dk_at dksX6_child_0 21 rfl rfl)
theorem dX6_child_23 : decode cX6_child 23 = .ok (.if_icmp .gt 14, 3) := dk_163 0 14 (dk_at dksX6_child_1 0 rfl rfl)
theorem dX6_child_26 : decode cX6_child 26 = .ok (.iload_n 3, 1) := dk_29 (dk_at dksX6_child_1 3 rfl rfl)
theorem dX6_child_27 : decode cX6_child 27 = .ok (.iconst 1, 1) := dk_4 (dk_at dksX6_child_1 4 rfl rfl)
theorem dX6_child_28 : decode cX6_child 28 = .ok (.if_icmp .lt 9, 3) := dk_161 0 9 (dk_at dksX6_child_1 5 rfl rfl)
theorem dX6_child_31 : decode cX6_child 31 = .ok (.iload_n 3, 1) := dk_29 (dk_at dksX6_child_1 8 rfl rfl)
theorem dX6_child_32 : decode cX6_child 32 = .ok (.bipush 9, 2) := dk_16 9 (dk_at dksX6_child_1 9 rfl rfl)
theorem dX6_child_34 : decode cX6_child 34 = .ok (.if_icmp .le 10, 3) := dk_164 0 10 (dk_at dksX6_child_1 11 rfl rfl)
theorem dX6_child_37 : decode cX6_child 37 = .ok (.aload_n 0, 1) := dk_42 (dk_at dksX6_child_1 14 rfl rfl)
theorem dX6_child_38 : decode cX6_child 38 = .ok (.bipush (-6), 2) := dk_16 250 (dk_at dksX6_child_1 15 rfl rfl)
theorem dX6_child_40 : decode cX6_child 40 = .ok (.invokevirtual 127, 3) := dk_182 0 127 (dk_at dksX6_child_1 17 rfl rfl)
theorem dX6_child_43 : decode cX6_child 43 = .ok (.ireturn, 1) := dk_172 (dk_at dksX6_child_1 20 rfl rfl)
theorem dX6_child_44 : decode cX6_child 44 = .ok (.aload_n 0, 1) := dk_42 (dk_at dksX6_child_1 21 rfl rfl)
theorem dX6_child_45 : decode cX6_child 45 = .ok (.getfield 117, 3) := dk_180 0 117 (dk_at dksX6_child_2 0 rfl rfl)
theorem dX6_child_48 : decode cX6_child 48 = .ok (.bipush 8, 2) := dk_16 8 (dk_at dksX6_child_2 3 rfl rfl)
theorem dX6_child_50 : decode cX6_child 50 = .ok (.if_icmp .ne 12, 3) := dk_160 0 12 (dk_at dksX6_child_2 5 rfl rfl)
theorem dX6_child_53 : decode cX6_child 53 = .ok (.aload_n 0, 1) := dk_42 (dk_at dksX6_child_2 8 rfl rfl)
theorem dX6_child_54 : decode cX6_child 54 = .ok (.bipush (-7), 2) := dk_16 249 (dk_at dksX6_child_2 9 rfl rfl)
theorem dX6_child_56 : decode cX6_child 56 = .ok (.invokevirtual 127, 3) := dk_182 0 127 (dk_at dksX6_child_2 11 rfl rfl)
theorem dX6_child_59 : decode cX6_child 59 = .ok (.goto 10, 3) := dk_167 0 10 (dk_at dksX6_child_2 14 rfl rfl)
theorem dX6_child_62 : decode cX6_child 62 = .ok (.aload_n 0, 1) := dk_42 (dk_at dksX6_child_2 17 rfl rfl)
theorem dX6_child_63 : decode cX6_child 63 = .ok (.iload_n 1, 1) := dk_27 (dk_at dksX6_child_2 18 rfl rfl)
theorem dX6_child_64 : decode cX6_child 64 = .ok (.iload_n 2, 1) := dk_28 (dk_at dksX6_child_2 19 rfl rfl)
theorem dX6_child_65 : decode cX6_child 65 = .ok (.iload_n 3, 1) := dk_29 (dk_at dksX6_child_2 20 rfl rfl)
theorem dX6_child_66 : decode cX6_child 66 = .ok (.invokevirtual 148, 3) := dk_182 0 148 (dk_at dksX6_child_2 21 rfl rfl)
theorem dX6_child_69 : decode cX6_child 69 = .ok (.ireturn, 1) := dk_172 (dk_at dksX6_child_3 0 rfl rfl)
abbrev cX6_addsChild : ByteArray := prog_23_method_17_code
def yX6_addsChild : MethodName := ⟨RX6, "addsChild", "(III)I"⟩
def dkwX6_addsChild_3 : List UInt8 := [180, 0, 47, 42, 180, 0, 117, 3, 79, 42, 89, 180, 0, 117, 90, 4, 96, 181, 0, 117, 172]
abbrev dktX6_addsChild_3 : List UInt8 := dkwX6_addsChild_3 ++ []
def dkwX6_addsChild_2 : List UInt8 := [162, 0, 10, 42, 180, 0, 117, 167, 0, 4, 3, 79, 42, 180, 0, 44, 42, 180, 0, 117, 3, 79, 42]
abbrev dktX6_addsChild_2 : List UInt8 := dkwX6_addsChild_2 ++ dktX6_addsChild_3
def dkwX6_addsChild_1 : List UInt8 := [42, 180, 0, 117, 29, 79, 42, 180, 0, 41, 42, 180, 0, 117, 42, 180, 0, 117, 42, 180, 0, 120]
abbrev dktX6_addsChild_1 : List UInt8 := dkwX6_addsChild_1 ++ dktX6_addsChild_2
def dkwX6_addsChild_0 : List UInt8 := [42, 180, 0, 32, 42, 180, 0, 117, 27, 79, 42, 180, 0, 35, 42, 180, 0, 117, 28, 79, 42, 180, 0, 38]
abbrev dktX6_addsChild_0 : List UInt8 := dkwX6_addsChild_0 ++ dktX6_addsChild_1
theorem dksX6_addsChild_0 : cX6_addsChild.data.toList.drop 0 = dktX6_addsChild_0 := by decide +kernel
theorem dksX6_addsChild_1 : cX6_addsChild.data.toList.drop 24 = dktX6_addsChild_1 := dk_seg dksX6_addsChild_0 24 rfl rfl
theorem dksX6_addsChild_2 : cX6_addsChild.data.toList.drop 46 = dktX6_addsChild_2 := dk_seg dksX6_addsChild_1 22 rfl rfl
theorem dksX6_addsChild_3 : cX6_addsChild.data.toList.drop 69 = dktX6_addsChild_3 := dk_seg dksX6_addsChild_2 23 rfl rfl
theorem dX6_addsChild_0 : decode cX6_addsChild 0 = .ok (.aload_n 0, 1) := dk_42 (dk_at dksX6_addsChild_0 0 rfl rfl)
theorem dX6_addsChild_1 : decode cX6_addsChild 1 = .ok (.getfield 32, 3) := dk_180 0 32 (dk_at dksX6_addsChild_0 1 rfl rfl)
theorem dX6_addsChild_4 : decode cX6_addsChild 4 = .ok (.aload_n 0, 1) := dk_42 (dk_at dksX6_addsChild_0 4 rfl rfl)
theorem dX6_addsChild_5 : decode cX6_addsChild 5 = .ok (.getfield 117, 3) := dk_180 0 117 (dk_at dksX6_addsChild_0 5 rfl rfl)
theorem dX6_addsChild_8 : decode cX6_addsChild 8 = .ok (.iload_n 1, 1) := dk_27 (dk_at dksX6_addsChild_0 8 rfl rfl)
theorem dX6_addsChild_9 : decode cX6_addsChild 9 = .ok (.iastore, 1) := dk_79 (dk_at dksX6_addsChild_0 9 rfl rfl)
theorem dX6_addsChild_10 : decode cX6_addsChild 10 = .ok (.aload_n 0, 1) := dk_42 (dk_at dksX6_addsChild_0 10 rfl rfl)
theorem dX6_addsChild_11 : decode cX6_addsChild 11 = .ok (.getfield 35, 3) := dk_180 0 35 (dk_at dksX6_addsChild_0 11 rfl rfl)
theorem dX6_addsChild_14 : decode cX6_addsChild 14 = .ok (.aload_n 0, 1) := dk_42 (dk_at dksX6_addsChild_0 14 rfl rfl)
theorem dX6_addsChild_15 : decode cX6_addsChild 15 = .ok (.getfield 117, 3) := dk_180 0 117 (dk_at dksX6_addsChild_0 15 rfl rfl)
theorem dX6_addsChild_18 : decode cX6_addsChild 18 = .ok (.iload_n 2, 1) := dk_28 (dk_at dksX6_addsChild_0 18 rfl rfl)
theorem dX6_addsChild_19 : decode cX6_addsChild 19 = .ok (.iastore, 1) := dk_79 (dk_at dksX6_addsChild_0 19 rfl rfl)
theorem dX6_addsChild_20 : decode cX6_addsChild 20 = .ok (.aload_n 0, 1) := dk_42 (dk_at dksX6_addsChild_0 20 rfl rfl)
theorem dX6_addsChild_21 : decode cX6_addsChild 21 = .ok (.getfield 38, 3) := dk_180 0 38 (dk_at dksX6_addsChild_0 21 rfl rfl)
theorem dX6_addsChild_24 : decode cX6_addsChild 24 = .ok (.aload_n 0, 1) := dk_42 (dk_at dksX6_addsChild_1 0 rfl rfl)
theorem dX6_addsChild_25 : decode cX6_addsChild 25 = .ok (.getfield 117, 3) := dk_180 0 117 (dk_at dksX6_addsChild_1 1 rfl rfl)
theorem dX6_addsChild_28 : decode cX6_addsChild 28 = .ok (.iload_n 3, 1) := dk_29 (dk_at dksX6_addsChild_1 4 rfl rfl)
theorem dX6_addsChild_29 : decode cX6_addsChild 29 = .ok (.iastore, 1) := dk_79 (dk_at dksX6_addsChild_1 5 rfl rfl)
theorem dX6_addsChild_30 : decode cX6_addsChild 30 = .ok (.aload_n 0, 1) := dk_42 (dk_at dksX6_addsChild_1 6 rfl rfl)
theorem dX6_addsChild_31 : decode cX6_addsChild 31 = .ok (.getfield 41, 3) := dk_180 0 41 (dk_at dksX6_addsChild_1 7 rfl rfl)
theorem dX6_addsChild_34 : decode cX6_addsChild 34 = .ok (.aload_n 0, 1) := dk_42 (dk_at dksX6_addsChild_1 10 rfl rfl)
theorem dX6_addsChild_35 : decode cX6_addsChild 35 = .ok (.getfield 117, 3) := dk_180 0 117 (dk_at dksX6_addsChild_1 11 rfl rfl)
theorem dX6_addsChild_38 : decode cX6_addsChild 38 = .ok (.aload_n 0, 1) := dk_42 (dk_at dksX6_addsChild_1 14 rfl rfl)
theorem dX6_addsChild_39 : decode cX6_addsChild 39 = .ok (.getfield 117, 3) := dk_180 0 117 (dk_at dksX6_addsChild_1 15 rfl rfl)
theorem dX6_addsChild_42 : decode cX6_addsChild 42 = .ok (.aload_n 0, 1) := dk_42 (dk_at dksX6_addsChild_1 18 rfl rfl)
theorem dX6_addsChild_43 : decode cX6_addsChild 43 = .ok (.getfield 120, 3) := dk_180 0 120 (dk_at dksX6_addsChild_1 19 rfl rfl)
theorem dX6_addsChild_46 : decode cX6_addsChild 46 = .ok (.if_icmp .ge 10, 3) := dk_162 0 10 (dk_at dksX6_addsChild_2 0 rfl rfl)
theorem dX6_addsChild_49 : decode cX6_addsChild 49 = .ok (.aload_n 0, 1) := dk_42 (dk_at dksX6_addsChild_2 3 rfl rfl)
theorem dX6_addsChild_50 : decode cX6_addsChild 50 = .ok (.getfield 117, 3) := dk_180 0 117 (dk_at dksX6_addsChild_2 4 rfl rfl)
theorem dX6_addsChild_53 : decode cX6_addsChild 53 = .ok (.goto 4, 3) := dk_167 0 4 (dk_at dksX6_addsChild_2 7 rfl rfl)
theorem dX6_addsChild_56 : decode cX6_addsChild 56 = .ok (.iconst 0, 1) := dk_3 (dk_at dksX6_addsChild_2 10 rfl rfl)
theorem dX6_addsChild_57 : decode cX6_addsChild 57 = .ok (.iastore, 1) := dk_79 (dk_at dksX6_addsChild_2 11 rfl rfl)
theorem dX6_addsChild_58 : decode cX6_addsChild 58 = .ok (.aload_n 0, 1) := dk_42 (dk_at dksX6_addsChild_2 12 rfl rfl)
theorem dX6_addsChild_59 : decode cX6_addsChild 59 = .ok (.getfield 44, 3) := dk_180 0 44 (dk_at dksX6_addsChild_2 13 rfl rfl)
theorem dX6_addsChild_62 : decode cX6_addsChild 62 = .ok (.aload_n 0, 1) := dk_42 (dk_at dksX6_addsChild_2 16 rfl rfl)
theorem dX6_addsChild_63 : decode cX6_addsChild 63 = .ok (.getfield 117, 3) := dk_180 0 117 (dk_at dksX6_addsChild_2 17 rfl rfl)
theorem dX6_addsChild_66 : decode cX6_addsChild 66 = .ok (.iconst 0, 1) := dk_3 (dk_at dksX6_addsChild_2 20 rfl rfl)
theorem dX6_addsChild_67 : decode cX6_addsChild 67 = .ok (.iastore, 1) := dk_79 (dk_at dksX6_addsChild_2 21 rfl rfl)
theorem dX6_addsChild_68 : decode cX6_addsChild 68 = .ok (.aload_n 0, 1) := dk_42 (dk_at dksX6_addsChild_2 22 rfl rfl)
theorem dX6_addsChild_69 : decode cX6_addsChild 69 = .ok (.getfield 47, 3) := dk_180 0 47 (dk_at dksX6_addsChild_3 0 rfl rfl)
theorem dX6_addsChild_72 : decode cX6_addsChild 72 = .ok (.aload_n 0, 1) := dk_42 (dk_at dksX6_addsChild_3 3 rfl rfl)
theorem dX6_addsChild_73 : decode cX6_addsChild 73 = .ok (.getfield 117, 3) := dk_180 0 117 (dk_at dksX6_addsChild_3 4 rfl rfl)
theorem dX6_addsChild_76 : decode cX6_addsChild 76 = .ok (.iconst 0, 1) := dk_3 (dk_at dksX6_addsChild_3 7 rfl rfl)
theorem dX6_addsChild_77 : decode cX6_addsChild 77 = .ok (.iastore, 1) := dk_79 (dk_at dksX6_addsChild_3 8 rfl rfl)
theorem dX6_addsChild_78 : decode cX6_addsChild 78 = .ok (.aload_n 0, 1) := dk_42 (dk_at dksX6_addsChild_3 9 rfl rfl)
theorem dX6_addsChild_79 : decode cX6_addsChild 79 = .ok (.dup, 1) := dk_89 (dk_at dksX6_addsChild_3 10 rfl rfl)
theorem dX6_addsChild_80 : decode cX6_addsChild 80 = .ok (.getfield 117, 3) := dk_180 0 117 (dk_at dksX6_addsChild_3 11 rfl rfl)
theorem dX6_addsChild_83 : decode cX6_addsChild 83 = .ok (.dup_x1, 1) := dk_90 (dk_at dksX6_addsChild_3 14 rfl rfl)
theorem dX6_addsChild_84 : decode cX6_addsChild 84 = .ok (.iconst 1, 1) := dk_4 (dk_at dksX6_addsChild_3 15 rfl rfl)
theorem dX6_addsChild_85 : decode cX6_addsChild 85 = .ok (.iadd, 1) := dk_96 (dk_at dksX6_addsChild_3 16 rfl rfl)
theorem dX6_addsChild_86 : decode cX6_addsChild 86 = .ok (.putfield 117, 3) := dk_181 0 117 (dk_at dksX6_addsChild_3 17 rfl rfl)
theorem dX6_addsChild_89 : decode cX6_addsChild 89 = .ok (.ireturn, 1) := dk_172 (dk_at dksX6_addsChild_3 20 rfl rfl)
abbrev cX6_sack : ByteArray := prog_23_method_20_code
def yX6_sack : MethodName := ⟨RX6, "sack", "(II)I"⟩
def dkwX6_sack_2 : List UInt8 := [28, 182, 0, 152, 172]
abbrev dktX6_sack_2 : List UInt8 := dkwX6_sack_2 ++ []
def dkwX6_sack_1 : List UInt8 := [182, 0, 127, 172, 42, 180, 0, 120, 16, 8, 160, 0, 12, 42, 16, 249, 182, 0, 127, 167, 0, 9, 42, 27]
abbrev dktX6_sack_1 : List UInt8 := dkwX6_sack_1 ++ dktX6_sack_2
def dkwX6_sack_0 : List UInt8 := [27, 4, 161, 0, 19, 27, 16, 9, 163, 0, 13, 28, 155, 0, 9, 28, 16, 9, 164, 0, 10, 42, 16, 250]
abbrev dktX6_sack_0 : List UInt8 := dkwX6_sack_0 ++ dktX6_sack_1
theorem dksX6_sack_0 : cX6_sack.data.toList.drop 0 = dktX6_sack_0 := by decide +kernel
theorem dksX6_sack_1 : cX6_sack.data.toList.drop 24 = dktX6_sack_1 := dk_seg dksX6_sack_0 24 rfl rfl
theorem dksX6_sack_2 : cX6_sack.data.toList.drop 48 = dktX6_sack_2 := dk_seg dksX6_sack_1 24 rfl rfl
theorem dX6_sack_0 : decode cX6_sack 0 = .ok (.iload_n 1, 1) := dk_27 (dk_at dksX6_sack_0 0 rfl rfl)
theorem dX6_sack_1 : decode cX6_sack 1 = .ok (.iconst 1, 1) := dk_4 (dk_at dksX6_sack_0 1 rfl rfl)
theorem dX6_sack_2 : decode cX6_sack 2 = .ok (.if_icmp .lt 19, 3) := dk_161 0 19 (dk_at dksX6_sack_0 2 rfl rfl)
theorem dX6_sack_5 : decode cX6_sack 5 = .ok (.iload_n 1, 1) := dk_27 (dk_at dksX6_sack_0 5 rfl rfl)
theorem dX6_sack_6 : decode cX6_sack 6 = .ok (.bipush 9, 2) := dk_16 9 (dk_at dksX6_sack_0 6 rfl rfl)
theorem dX6_sack_8 : decode cX6_sack 8 = .ok (.if_icmp .gt 13, 3) := dk_163 0 13 (dk_at dksX6_sack_0 8 rfl rfl)
theorem dX6_sack_11 : decode cX6_sack 11 = .ok (.iload_n 2, 1) := dk_28 (dk_at dksX6_sack_0 11 rfl rfl)
theorem dX6_sack_12 : decode cX6_sack 12 = .ok (.ifCond .lt 9, 3) := dk_155 0 9 (dk_at dksX6_sack_0 12 rfl rfl)
theorem dX6_sack_15 : decode cX6_sack 15 = .ok (.iload_n 2, 1) := dk_28 (dk_at dksX6_sack_0 15 rfl rfl)
theorem dX6_sack_16 : decode cX6_sack 16 = .ok (.bipush 9, 2) := dk_16 9 (dk_at dksX6_sack_0 16 rfl rfl)
theorem dX6_sack_18 : decode cX6_sack 18 = .ok (.if_icmp .le 10, 3) := dk_164 0 10 (dk_at dksX6_sack_0 18 rfl rfl)
theorem dX6_sack_21 : decode cX6_sack 21 = .ok (.aload_n 0, 1) := dk_42 (dk_at dksX6_sack_0 21 rfl rfl)
theorem dX6_sack_22 : decode cX6_sack 22 = .ok (.bipush (-6), 2) := dk_16 250 (dk_at dksX6_sack_0 22 rfl rfl)
theorem dX6_sack_24 : decode cX6_sack 24 = .ok (.invokevirtual 127, 3) := dk_182 0 127 (dk_at dksX6_sack_1 0 rfl rfl)
theorem dX6_sack_27 : decode cX6_sack 27 = .ok (.ireturn, 1) := dk_172 (dk_at dksX6_sack_1 3 rfl rfl)
theorem dX6_sack_28 : decode cX6_sack 28 = .ok (.aload_n 0, 1) := dk_42 (dk_at dksX6_sack_1 4 rfl rfl)
theorem dX6_sack_29 : decode cX6_sack 29 = .ok (.getfield 120, 3) := dk_180 0 120 (dk_at dksX6_sack_1 5 rfl rfl)
theorem dX6_sack_32 : decode cX6_sack 32 = .ok (.bipush 8, 2) := dk_16 8 (dk_at dksX6_sack_1 8 rfl rfl)
theorem dX6_sack_34 : decode cX6_sack 34 = .ok (.if_icmp .ne 12, 3) := dk_160 0 12 (dk_at dksX6_sack_1 10 rfl rfl)
theorem dX6_sack_37 : decode cX6_sack 37 = .ok (.aload_n 0, 1) := dk_42 (dk_at dksX6_sack_1 13 rfl rfl)
theorem dX6_sack_38 : decode cX6_sack 38 = .ok (.bipush (-7), 2) := dk_16 249 (dk_at dksX6_sack_1 14 rfl rfl)
theorem dX6_sack_40 : decode cX6_sack 40 = .ok (.invokevirtual 127, 3) := dk_182 0 127 (dk_at dksX6_sack_1 16 rfl rfl)
theorem dX6_sack_43 : decode cX6_sack 43 = .ok (.goto 9, 3) := dk_167 0 9 (dk_at dksX6_sack_1 19 rfl rfl)
theorem dX6_sack_46 : decode cX6_sack 46 = .ok (.aload_n 0, 1) := dk_42 (dk_at dksX6_sack_1 22 rfl rfl)
theorem dX6_sack_47 : decode cX6_sack 47 = .ok (.iload_n 1, 1) := dk_27 (dk_at dksX6_sack_1 23 rfl rfl)
theorem dX6_sack_48 : decode cX6_sack 48 = .ok (.iload_n 2, 1) := dk_28 (dk_at dksX6_sack_2 0 rfl rfl)
theorem dX6_sack_49 : decode cX6_sack 49 = .ok (.invokevirtual 152, 3) := dk_182 0 152 (dk_at dksX6_sack_2 1 rfl rfl)
theorem dX6_sack_52 : decode cX6_sack 52 = .ok (.ireturn, 1) := dk_172 (dk_at dksX6_sack_2 4 rfl rfl)
abbrev cX6_addsSack : ByteArray := prog_23_method_18_code
def yX6_addsSack : MethodName := ⟨RX6, "addsSack", "(II)I"⟩
def dkwX6_addsSack_1 : List UInt8 := [180, 0, 120, 90, 4, 96, 181, 0, 120, 172]
abbrev dktX6_addsSack_1 : List UInt8 := dkwX6_addsSack_1 ++ []
def dkwX6_addsSack_0 : List UInt8 := [42, 180, 0, 50, 42, 180, 0, 120, 27, 79, 42, 180, 0, 53, 42, 180, 0, 120, 28, 79, 42, 89]
abbrev dktX6_addsSack_0 : List UInt8 := dkwX6_addsSack_0 ++ dktX6_addsSack_1
theorem dksX6_addsSack_0 : cX6_addsSack.data.toList.drop 0 = dktX6_addsSack_0 := by decide +kernel
theorem dksX6_addsSack_1 : cX6_addsSack.data.toList.drop 22 = dktX6_addsSack_1 := dk_seg dksX6_addsSack_0 22 rfl rfl
theorem dX6_addsSack_0 : decode cX6_addsSack 0 = .ok (.aload_n 0, 1) := dk_42 (dk_at dksX6_addsSack_0 0 rfl rfl)
theorem dX6_addsSack_1 : decode cX6_addsSack 1 = .ok (.getfield 50, 3) := dk_180 0 50 (dk_at dksX6_addsSack_0 1 rfl rfl)
theorem dX6_addsSack_4 : decode cX6_addsSack 4 = .ok (.aload_n 0, 1) := dk_42 (dk_at dksX6_addsSack_0 4 rfl rfl)
theorem dX6_addsSack_5 : decode cX6_addsSack 5 = .ok (.getfield 120, 3) := dk_180 0 120 (dk_at dksX6_addsSack_0 5 rfl rfl)
theorem dX6_addsSack_8 : decode cX6_addsSack 8 = .ok (.iload_n 1, 1) := dk_27 (dk_at dksX6_addsSack_0 8 rfl rfl)
theorem dX6_addsSack_9 : decode cX6_addsSack 9 = .ok (.iastore, 1) := dk_79 (dk_at dksX6_addsSack_0 9 rfl rfl)
theorem dX6_addsSack_10 : decode cX6_addsSack 10 = .ok (.aload_n 0, 1) := dk_42 (dk_at dksX6_addsSack_0 10 rfl rfl)
theorem dX6_addsSack_11 : decode cX6_addsSack 11 = .ok (.getfield 53, 3) := dk_180 0 53 (dk_at dksX6_addsSack_0 11 rfl rfl)
theorem dX6_addsSack_14 : decode cX6_addsSack 14 = .ok (.aload_n 0, 1) := dk_42 (dk_at dksX6_addsSack_0 14 rfl rfl)
theorem dX6_addsSack_15 : decode cX6_addsSack 15 = .ok (.getfield 120, 3) := dk_180 0 120 (dk_at dksX6_addsSack_0 15 rfl rfl)
theorem dX6_addsSack_18 : decode cX6_addsSack 18 = .ok (.iload_n 2, 1) := dk_28 (dk_at dksX6_addsSack_0 18 rfl rfl)
theorem dX6_addsSack_19 : decode cX6_addsSack 19 = .ok (.iastore, 1) := dk_79 (dk_at dksX6_addsSack_0 19 rfl rfl)
theorem dX6_addsSack_20 : decode cX6_addsSack 20 = .ok (.aload_n 0, 1) := dk_42 (dk_at dksX6_addsSack_0 20 rfl rfl)
theorem dX6_addsSack_21 : decode cX6_addsSack 21 = .ok (.dup, 1) := dk_89 (dk_at dksX6_addsSack_0 21 rfl rfl)
theorem dX6_addsSack_22 : decode cX6_addsSack 22 = .ok (.getfield 120, 3) := dk_180 0 120 (dk_at dksX6_addsSack_1 0 rfl rfl)
theorem dX6_addsSack_25 : decode cX6_addsSack 25 = .ok (.dup_x1, 1) := dk_90 (dk_at dksX6_addsSack_1 3 rfl rfl)
theorem dX6_addsSack_26 : decode cX6_addsSack 26 = .ok (.iconst 1, 1) := dk_4 (dk_at dksX6_addsSack_1 4 rfl rfl)
theorem dX6_addsSack_27 : decode cX6_addsSack 27 = .ok (.iadd, 1) := dk_96 (dk_at dksX6_addsSack_1 5 rfl rfl)
theorem dX6_addsSack_28 : decode cX6_addsSack 28 = .ok (.putfield 120, 3) := dk_181 0 120 (dk_at dksX6_addsSack_1 6 rfl rfl)
theorem dX6_addsSack_31 : decode cX6_addsSack 31 = .ok (.ireturn, 1) := dk_172 (dk_at dksX6_addsSack_1 9 rfl rfl)
abbrev cX6_childOf : ByteArray := prog_23_method_21_code
def yX6_childOf : MethodName := ⟨RX6, "childOf", "(II)I"⟩
def dkwX6_childOf_4 : List UInt8 := [182, 0, 145, 172, 42, 180, 0, 47, 27, 46, 172, 42, 16, 251, 182, 0, 127, 172]
abbrev dktX6_childOf_4 : List UInt8 := dkwX6_childOf_4 ++ []
def dkwX6_childOf_3 : List UInt8 := [180, 0, 41, 27, 46, 172, 42, 180, 0, 44, 27, 46, 172, 42, 182, 0, 142, 172, 42, 182, 0, 138, 172, 42]
abbrev dktX6_childOf_3 : List UInt8 := dkwX6_childOf_3 ++ dktX6_childOf_4
def dkwX6_childOf_2 : List UInt8 := [42, 180, 0, 32, 27, 46, 172, 42, 180, 0, 35, 27, 46, 172, 42, 180, 0, 38, 27, 46, 172, 42]
abbrev dktX6_childOf_2 : List UInt8 := dkwX6_childOf_2 ++ dktX6_childOf_3
def dkwX6_childOf_1 : List UInt8 := [170, 0, 0, 0, 0, 0, 108, 0, 0, 0, 0, 0, 0, 0, 8, 0, 0, 0, 51, 0, 0, 0, 58, 0, 0, 0, 65, 0, 0, 0, 72, 0, 0, 0, 79, 0, 0, 0, 86, 0, 0, 0, 91, 0, 0, 0, 96, 0, 0, 0, 101]
abbrev dktX6_childOf_1 : List UInt8 := dkwX6_childOf_1 ++ dktX6_childOf_2
def dkwX6_childOf_0 : List UInt8 := [42, 27, 182, 0, 131, 154, 0, 10, 42, 16, 251, 182, 0, 127, 172, 42, 27, 182, 0, 134, 28]
abbrev dktX6_childOf_0 : List UInt8 := dkwX6_childOf_0 ++ dktX6_childOf_1
theorem dksX6_childOf_0 : cX6_childOf.data.toList.drop 0 = dktX6_childOf_0 := by decide +kernel
theorem dksX6_childOf_1 : cX6_childOf.data.toList.drop 21 = dktX6_childOf_1 := dk_seg dksX6_childOf_0 21 rfl rfl
theorem dksX6_childOf_2 : cX6_childOf.data.toList.drop 72 = dktX6_childOf_2 := dk_seg dksX6_childOf_1 51 rfl rfl
theorem dksX6_childOf_3 : cX6_childOf.data.toList.drop 94 = dktX6_childOf_3 := dk_seg dksX6_childOf_2 22 rfl rfl
theorem dksX6_childOf_4 : cX6_childOf.data.toList.drop 118 = dktX6_childOf_4 := dk_seg dksX6_childOf_3 24 rfl rfl
theorem dX6_childOf_0 : decode cX6_childOf 0 = .ok (.aload_n 0, 1) := dk_42 (dk_at dksX6_childOf_0 0 rfl rfl)
theorem dX6_childOf_1 : decode cX6_childOf 1 = .ok (.iload_n 1, 1) := dk_27 (dk_at dksX6_childOf_0 1 rfl rfl)
theorem dX6_childOf_2 : decode cX6_childOf 2 = .ok (.invokevirtual 131, 3) := dk_182 0 131 (dk_at dksX6_childOf_0 2 rfl rfl)
theorem dX6_childOf_5 : decode cX6_childOf 5 = .ok (.ifCond .ne 10, 3) := dk_154 0 10 (dk_at dksX6_childOf_0 5 rfl rfl)
theorem dX6_childOf_8 : decode cX6_childOf 8 = .ok (.aload_n 0, 1) := dk_42 (dk_at dksX6_childOf_0 8 rfl rfl)
theorem dX6_childOf_9 : decode cX6_childOf 9 = .ok (.bipush (-5), 2) := dk_16 251 (dk_at dksX6_childOf_0 9 rfl rfl)
theorem dX6_childOf_11 : decode cX6_childOf 11 = .ok (.invokevirtual 127, 3) := dk_182 0 127 (dk_at dksX6_childOf_0 11 rfl rfl)
theorem dX6_childOf_14 : decode cX6_childOf 14 = .ok (.ireturn, 1) := dk_172 (dk_at dksX6_childOf_0 14 rfl rfl)
theorem dX6_childOf_15 : decode cX6_childOf 15 = .ok (.aload_n 0, 1) := dk_42 (dk_at dksX6_childOf_0 15 rfl rfl)
theorem dX6_childOf_16 : decode cX6_childOf 16 = .ok (.iload_n 1, 1) := dk_27 (dk_at dksX6_childOf_0 16 rfl rfl)
theorem dX6_childOf_17 : decode cX6_childOf 17 = .ok (.invokevirtual 134, 3) := dk_182 0 134 (dk_at dksX6_childOf_0 17 rfl rfl)
theorem dX6_childOf_20 : decode cX6_childOf 20 = .ok (.iload_n 2, 1) := dk_28 (dk_at dksX6_childOf_0 20 rfl rfl)
theorem dX6_childOf_21 : decode cX6_childOf 21 = .ok (.tableswitch 108 0 8 #[51, 58, 65, 72, 79, 86, 91, 96, 101], 51) := by decide +kernel
theorem dX6_childOf_72 : decode cX6_childOf 72 = .ok (.aload_n 0, 1) := dk_42 (dk_at dksX6_childOf_2 0 rfl rfl)
theorem dX6_childOf_73 : decode cX6_childOf 73 = .ok (.getfield 32, 3) := dk_180 0 32 (dk_at dksX6_childOf_2 1 rfl rfl)
theorem dX6_childOf_76 : decode cX6_childOf 76 = .ok (.iload_n 1, 1) := dk_27 (dk_at dksX6_childOf_2 4 rfl rfl)
theorem dX6_childOf_77 : decode cX6_childOf 77 = .ok (.iaload, 1) := dk_46 (dk_at dksX6_childOf_2 5 rfl rfl)
theorem dX6_childOf_78 : decode cX6_childOf 78 = .ok (.ireturn, 1) := dk_172 (dk_at dksX6_childOf_2 6 rfl rfl)
theorem dX6_childOf_79 : decode cX6_childOf 79 = .ok (.aload_n 0, 1) := dk_42 (dk_at dksX6_childOf_2 7 rfl rfl)
theorem dX6_childOf_80 : decode cX6_childOf 80 = .ok (.getfield 35, 3) := dk_180 0 35 (dk_at dksX6_childOf_2 8 rfl rfl)
theorem dX6_childOf_83 : decode cX6_childOf 83 = .ok (.iload_n 1, 1) := dk_27 (dk_at dksX6_childOf_2 11 rfl rfl)
theorem dX6_childOf_84 : decode cX6_childOf 84 = .ok (.iaload, 1) := dk_46 (dk_at dksX6_childOf_2 12 rfl rfl)
theorem dX6_childOf_85 : decode cX6_childOf 85 = .ok (.ireturn, 1) := dk_172 (dk_at dksX6_childOf_2 13 rfl rfl)
theorem dX6_childOf_86 : decode cX6_childOf 86 = .ok (.aload_n 0, 1) := dk_42 (dk_at dksX6_childOf_2 14 rfl rfl)
theorem dX6_childOf_87 : decode cX6_childOf 87 = .ok (.getfield 38, 3) := dk_180 0 38 (dk_at dksX6_childOf_2 15 rfl rfl)
theorem dX6_childOf_90 : decode cX6_childOf 90 = .ok (.iload_n 1, 1) := dk_27 (dk_at dksX6_childOf_2 18 rfl rfl)
theorem dX6_childOf_91 : decode cX6_childOf 91 = .ok (.iaload, 1) := dk_46 (dk_at dksX6_childOf_2 19 rfl rfl)
theorem dX6_childOf_92 : decode cX6_childOf 92 = .ok (.ireturn, 1) := dk_172 (dk_at dksX6_childOf_2 20 rfl rfl)
theorem dX6_childOf_93 : decode cX6_childOf 93 = .ok (.aload_n 0, 1) := dk_42 (dk_at dksX6_childOf_2 21 rfl rfl)
theorem dX6_childOf_94 : decode cX6_childOf 94 = .ok (.getfield 41, 3) := dk_180 0 41 (dk_at dksX6_childOf_3 0 rfl rfl)
theorem dX6_childOf_97 : decode cX6_childOf 97 = .ok (.iload_n 1, 1) := dk_27 (dk_at dksX6_childOf_3 3 rfl rfl)
theorem dX6_childOf_98 : decode cX6_childOf 98 = .ok (.iaload, 1) := dk_46 (dk_at dksX6_childOf_3 4 rfl rfl)
theorem dX6_childOf_99 : decode cX6_childOf 99 = .ok (.ireturn, 1) := dk_172 (dk_at dksX6_childOf_3 5 rfl rfl)
theorem dX6_childOf_100 : decode cX6_childOf 100 = .ok (.aload_n 0, 1) := dk_42 (dk_at dksX6_childOf_3 6 rfl rfl)
theorem dX6_childOf_101 : decode cX6_childOf 101 = .ok (.getfield 44, 3) := dk_180 0 44 (dk_at dksX6_childOf_3 7 rfl rfl)
theorem dX6_childOf_104 : decode cX6_childOf 104 = .ok (.iload_n 1, 1) := dk_27 (dk_at dksX6_childOf_3 10 rfl rfl)
theorem dX6_childOf_105 : decode cX6_childOf 105 = .ok (.iaload, 1) := dk_46 (dk_at dksX6_childOf_3 11 rfl rfl)
theorem dX6_childOf_106 : decode cX6_childOf 106 = .ok (.ireturn, 1) := dk_172 (dk_at dksX6_childOf_3 12 rfl rfl)
theorem dX6_childOf_107 : decode cX6_childOf 107 = .ok (.aload_n 0, 1) := dk_42 (dk_at dksX6_childOf_3 13 rfl rfl)
theorem dX6_childOf_108 : decode cX6_childOf 108 = .ok (.invokevirtual 142, 3) := dk_182 0 142 (dk_at dksX6_childOf_3 14 rfl rfl)
theorem dX6_childOf_111 : decode cX6_childOf 111 = .ok (.ireturn, 1) := dk_172 (dk_at dksX6_childOf_3 17 rfl rfl)
theorem dX6_childOf_112 : decode cX6_childOf 112 = .ok (.aload_n 0, 1) := dk_42 (dk_at dksX6_childOf_3 18 rfl rfl)
theorem dX6_childOf_113 : decode cX6_childOf 113 = .ok (.invokevirtual 138, 3) := dk_182 0 138 (dk_at dksX6_childOf_3 19 rfl rfl)
theorem dX6_childOf_116 : decode cX6_childOf 116 = .ok (.ireturn, 1) := dk_172 (dk_at dksX6_childOf_3 22 rfl rfl)
theorem dX6_childOf_117 : decode cX6_childOf 117 = .ok (.aload_n 0, 1) := dk_42 (dk_at dksX6_childOf_3 23 rfl rfl)
theorem dX6_childOf_118 : decode cX6_childOf 118 = .ok (.invokevirtual 145, 3) := dk_182 0 145 (dk_at dksX6_childOf_4 0 rfl rfl)
theorem dX6_childOf_121 : decode cX6_childOf 121 = .ok (.ireturn, 1) := dk_172 (dk_at dksX6_childOf_4 3 rfl rfl)
theorem dX6_childOf_122 : decode cX6_childOf 122 = .ok (.aload_n 0, 1) := dk_42 (dk_at dksX6_childOf_4 4 rfl rfl)
theorem dX6_childOf_123 : decode cX6_childOf 123 = .ok (.getfield 47, 3) := dk_180 0 47 (dk_at dksX6_childOf_4 5 rfl rfl)
theorem dX6_childOf_126 : decode cX6_childOf 126 = .ok (.iload_n 1, 1) := dk_27 (dk_at dksX6_childOf_4 8 rfl rfl)
theorem dX6_childOf_127 : decode cX6_childOf 127 = .ok (.iaload, 1) := dk_46 (dk_at dksX6_childOf_4 9 rfl rfl)
theorem dX6_childOf_128 : decode cX6_childOf 128 = .ok (.ireturn, 1) := dk_172 (dk_at dksX6_childOf_4 10 rfl rfl)
theorem dX6_childOf_129 : decode cX6_childOf 129 = .ok (.aload_n 0, 1) := dk_42 (dk_at dksX6_childOf_4 11 rfl rfl)
theorem dX6_childOf_130 : decode cX6_childOf 130 = .ok (.bipush (-5), 2) := dk_16 251 (dk_at dksX6_childOf_4 12 rfl rfl)
theorem dX6_childOf_132 : decode cX6_childOf 132 = .ok (.invokevirtual 127, 3) := dk_182 0 127 (dk_at dksX6_childOf_4 14 rfl rfl)
theorem dX6_childOf_135 : decode cX6_childOf 135 = .ok (.ireturn, 1) := dk_172 (dk_at dksX6_childOf_4 17 rfl rfl)
abbrev cX6_sackOf : ByteArray := prog_23_method_22_code
def yX6_sackOf : MethodName := ⟨RX6, "sackOf", "(II)I"⟩
def dkwX6_sackOf_1 : List UInt8 := [167, 0, 23, 28, 4, 160, 0, 12, 42, 180, 0, 53, 27, 46, 167, 0, 9, 42, 16, 251, 182, 0, 127, 172]
abbrev dktX6_sackOf_1 : List UInt8 := dkwX6_sackOf_1 ++ []
def dkwX6_sackOf_0 : List UInt8 := [42, 27, 182, 0, 156, 154, 0, 9, 42, 2, 182, 0, 127, 172, 28, 154, 0, 12, 42, 180, 0, 50, 27, 46]
abbrev dktX6_sackOf_0 : List UInt8 := dkwX6_sackOf_0 ++ dktX6_sackOf_1
theorem dksX6_sackOf_0 : cX6_sackOf.data.toList.drop 0 = dktX6_sackOf_0 := by decide +kernel
theorem dksX6_sackOf_1 : cX6_sackOf.data.toList.drop 24 = dktX6_sackOf_1 := dk_seg dksX6_sackOf_0 24 rfl rfl
theorem dX6_sackOf_0 : decode cX6_sackOf 0 = .ok (.aload_n 0, 1) := dk_42 (dk_at dksX6_sackOf_0 0 rfl rfl)
theorem dX6_sackOf_1 : decode cX6_sackOf 1 = .ok (.iload_n 1, 1) := dk_27 (dk_at dksX6_sackOf_0 1 rfl rfl)
theorem dX6_sackOf_2 : decode cX6_sackOf 2 = .ok (.invokevirtual 156, 3) := dk_182 0 156 (dk_at dksX6_sackOf_0 2 rfl rfl)
theorem dX6_sackOf_5 : decode cX6_sackOf 5 = .ok (.ifCond .ne 9, 3) := dk_154 0 9 (dk_at dksX6_sackOf_0 5 rfl rfl)
theorem dX6_sackOf_8 : decode cX6_sackOf 8 = .ok (.aload_n 0, 1) := dk_42 (dk_at dksX6_sackOf_0 8 rfl rfl)
theorem dX6_sackOf_9 : decode cX6_sackOf 9 = .ok (.iconst (-1), 1) := dk_2 (dk_at dksX6_sackOf_0 9 rfl rfl)
theorem dX6_sackOf_10 : decode cX6_sackOf 10 = .ok (.invokevirtual 127, 3) := dk_182 0 127 (dk_at dksX6_sackOf_0 10 rfl rfl)
theorem dX6_sackOf_13 : decode cX6_sackOf 13 = .ok (.ireturn, 1) := dk_172 (dk_at dksX6_sackOf_0 13 rfl rfl)
theorem dX6_sackOf_14 : decode cX6_sackOf 14 = .ok (.iload_n 2, 1) := dk_28 (dk_at dksX6_sackOf_0 14 rfl rfl)
theorem dX6_sackOf_15 : decode cX6_sackOf 15 = .ok (.ifCond .ne 12, 3) := dk_154 0 12 (dk_at dksX6_sackOf_0 15 rfl rfl)
theorem dX6_sackOf_18 : decode cX6_sackOf 18 = .ok (.aload_n 0, 1) := dk_42 (dk_at dksX6_sackOf_0 18 rfl rfl)
theorem dX6_sackOf_19 : decode cX6_sackOf 19 = .ok (.getfield 50, 3) := dk_180 0 50 (dk_at dksX6_sackOf_0 19 rfl rfl)
theorem dX6_sackOf_22 : decode cX6_sackOf 22 = .ok (.iload_n 1, 1) := dk_27 (dk_at dksX6_sackOf_0 22 rfl rfl)
theorem dX6_sackOf_23 : decode cX6_sackOf 23 = .ok (.iaload, 1) := dk_46 (dk_at dksX6_sackOf_0 23 rfl rfl)
theorem dX6_sackOf_24 : decode cX6_sackOf 24 = .ok (.goto 23, 3) := dk_167 0 23 (dk_at dksX6_sackOf_1 0 rfl rfl)
theorem dX6_sackOf_27 : decode cX6_sackOf 27 = .ok (.iload_n 2, 1) := dk_28 (dk_at dksX6_sackOf_1 3 rfl rfl)
theorem dX6_sackOf_28 : decode cX6_sackOf 28 = .ok (.iconst 1, 1) := dk_4 (dk_at dksX6_sackOf_1 4 rfl rfl)
theorem dX6_sackOf_29 : decode cX6_sackOf 29 = .ok (.if_icmp .ne 12, 3) := dk_160 0 12 (dk_at dksX6_sackOf_1 5 rfl rfl)
theorem dX6_sackOf_32 : decode cX6_sackOf 32 = .ok (.aload_n 0, 1) := dk_42 (dk_at dksX6_sackOf_1 8 rfl rfl)
theorem dX6_sackOf_33 : decode cX6_sackOf 33 = .ok (.getfield 53, 3) := dk_180 0 53 (dk_at dksX6_sackOf_1 9 rfl rfl)
theorem dX6_sackOf_36 : decode cX6_sackOf 36 = .ok (.iload_n 1, 1) := dk_27 (dk_at dksX6_sackOf_1 12 rfl rfl)
theorem dX6_sackOf_37 : decode cX6_sackOf 37 = .ok (.iaload, 1) := dk_46 (dk_at dksX6_sackOf_1 13 rfl rfl)
theorem dX6_sackOf_38 : decode cX6_sackOf 38 = .ok (.goto 9, 3) := dk_167 0 9 (dk_at dksX6_sackOf_1 14 rfl rfl)
theorem dX6_sackOf_41 : decode cX6_sackOf 41 = .ok (.aload_n 0, 1) := dk_42 (dk_at dksX6_sackOf_1 17 rfl rfl)
theorem dX6_sackOf_42 : decode cX6_sackOf 42 = .ok (.bipush (-5), 2) := dk_16 251 (dk_at dksX6_sackOf_1 18 rfl rfl)
theorem dX6_sackOf_44 : decode cX6_sackOf 44 = .ok (.invokevirtual 127, 3) := dk_182 0 127 (dk_at dksX6_sackOf_1 20 rfl rfl)
theorem dX6_sackOf_47 : decode cX6_sackOf 47 = .ok (.ireturn, 1) := dk_172 (dk_at dksX6_sackOf_1 23 rfl rfl)
abbrev cX6_isSack : ByteArray := prog_23_method_6_code
def yX6_isSack : MethodName := ⟨RX6, "isSack", "(I)Z"⟩
def dkwX6_isSack_0 : List UInt8 := [27, 155, 0, 15, 27, 42, 180, 0, 120, 162, 0, 7, 4, 167, 0, 4, 3, 172]
abbrev dktX6_isSack_0 : List UInt8 := dkwX6_isSack_0 ++ []
theorem dksX6_isSack_0 : cX6_isSack.data.toList.drop 0 = dktX6_isSack_0 := by decide +kernel
theorem dX6_isSack_0 : decode cX6_isSack 0 = .ok (.iload_n 1, 1) := dk_27 (dk_at dksX6_isSack_0 0 rfl rfl)
theorem dX6_isSack_1 : decode cX6_isSack 1 = .ok (.ifCond .lt 15, 3) := dk_155 0 15 (dk_at dksX6_isSack_0 1 rfl rfl)
theorem dX6_isSack_4 : decode cX6_isSack 4 = .ok (.iload_n 1, 1) := dk_27 (dk_at dksX6_isSack_0 4 rfl rfl)
theorem dX6_isSack_5 : decode cX6_isSack 5 = .ok (.aload_n 0, 1) := dk_42 (dk_at dksX6_isSack_0 5 rfl rfl)
theorem dX6_isSack_6 : decode cX6_isSack 6 = .ok (.getfield 120, 3) := dk_180 0 120 (dk_at dksX6_isSack_0 6 rfl rfl)
theorem dX6_isSack_9 : decode cX6_isSack 9 = .ok (.if_icmp .ge 7, 3) := dk_162 0 7 (dk_at dksX6_isSack_0 9 rfl rfl)
theorem dX6_isSack_12 : decode cX6_isSack 12 = .ok (.iconst 1, 1) := dk_4 (dk_at dksX6_isSack_0 12 rfl rfl)
theorem dX6_isSack_13 : decode cX6_isSack 13 = .ok (.goto 4, 3) := dk_167 0 4 (dk_at dksX6_isSack_0 13 rfl rfl)
theorem dX6_isSack_16 : decode cX6_isSack 16 = .ok (.iconst 0, 1) := dk_3 (dk_at dksX6_isSack_0 16 rfl rfl)
theorem dX6_isSack_17 : decode cX6_isSack 17 = .ok (.ireturn, 1) := dk_172 (dk_at dksX6_isSack_0 17 rfl rfl)
abbrev cX6_wears : ByteArray := prog_23_method_23_code
def yX6_wears : MethodName := ⟨RX6, "wears", "(II)I"⟩
def dkwX6_wears_1 : List UInt8 := [180, 0, 41, 27, 46, 62, 42, 180, 0, 41, 27, 28, 79, 29, 172]
abbrev dktX6_wears_1 : List UInt8 := dkwX6_wears_1 ++ []
def dkwX6_wears_0 : List UInt8 := [42, 27, 182, 0, 131, 153, 0, 11, 42, 28, 182, 0, 156, 154, 0, 9, 42, 2, 182, 0, 127, 172, 42]
abbrev dktX6_wears_0 : List UInt8 := dkwX6_wears_0 ++ dktX6_wears_1
theorem dksX6_wears_0 : cX6_wears.data.toList.drop 0 = dktX6_wears_0 := by decide +kernel
theorem dksX6_wears_1 : cX6_wears.data.toList.drop 23 = dktX6_wears_1 := dk_seg dksX6_wears_0 23 rfl rfl
theorem dX6_wears_0 : decode cX6_wears 0 = .ok (.aload_n 0, 1) := dk_42 (dk_at dksX6_wears_0 0 rfl rfl)
theorem dX6_wears_1 : decode cX6_wears 1 = .ok (.iload_n 1, 1) := dk_27 (dk_at dksX6_wears_0 1 rfl rfl)
theorem dX6_wears_2 : decode cX6_wears 2 = .ok (.invokevirtual 131, 3) := dk_182 0 131 (dk_at dksX6_wears_0 2 rfl rfl)
theorem dX6_wears_5 : decode cX6_wears 5 = .ok (.ifCond .eq 11, 3) := dk_153 0 11 (dk_at dksX6_wears_0 5 rfl rfl)
theorem dX6_wears_8 : decode cX6_wears 8 = .ok (.aload_n 0, 1) := dk_42 (dk_at dksX6_wears_0 8 rfl rfl)
theorem dX6_wears_9 : decode cX6_wears 9 = .ok (.iload_n 2, 1) := dk_28 (dk_at dksX6_wears_0 9 rfl rfl)
theorem dX6_wears_10 : decode cX6_wears 10 = .ok (.invokevirtual 156, 3) := dk_182 0 156 (dk_at dksX6_wears_0 10 rfl rfl)
theorem dX6_wears_13 : decode cX6_wears 13 = .ok (.ifCond .ne 9, 3) := dk_154 0 9 (dk_at dksX6_wears_0 13 rfl rfl)
theorem dX6_wears_16 : decode cX6_wears 16 = .ok (.aload_n 0, 1) := dk_42 (dk_at dksX6_wears_0 16 rfl rfl)
theorem dX6_wears_17 : decode cX6_wears 17 = .ok (.iconst (-1), 1) := dk_2 (dk_at dksX6_wears_0 17 rfl rfl)
theorem dX6_wears_18 : decode cX6_wears 18 = .ok (.invokevirtual 127, 3) := dk_182 0 127 (dk_at dksX6_wears_0 18 rfl rfl)
theorem dX6_wears_21 : decode cX6_wears 21 = .ok (.ireturn, 1) := dk_172 (dk_at dksX6_wears_0 21 rfl rfl)
theorem dX6_wears_22 : decode cX6_wears 22 = .ok (.aload_n 0, 1) := dk_42 (dk_at dksX6_wears_0 22 rfl rfl)
theorem dX6_wears_23 : decode cX6_wears 23 = .ok (.getfield 41, 3) := dk_180 0 41 (dk_at dksX6_wears_1 0 rfl rfl)
theorem dX6_wears_26 : decode cX6_wears 26 = .ok (.iload_n 1, 1) := dk_27 (dk_at dksX6_wears_1 3 rfl rfl)
theorem dX6_wears_27 : decode cX6_wears 27 = .ok (.iaload, 1) := dk_46 (dk_at dksX6_wears_1 4 rfl rfl)
theorem dX6_wears_28 : decode cX6_wears 28 = .ok (.istore_n 3, 1) := dk_62 (dk_at dksX6_wears_1 5 rfl rfl)
theorem dX6_wears_29 : decode cX6_wears 29 = .ok (.aload_n 0, 1) := dk_42 (dk_at dksX6_wears_1 6 rfl rfl)
theorem dX6_wears_30 : decode cX6_wears 30 = .ok (.getfield 41, 3) := dk_180 0 41 (dk_at dksX6_wears_1 7 rfl rfl)
theorem dX6_wears_33 : decode cX6_wears 33 = .ok (.iload_n 1, 1) := dk_27 (dk_at dksX6_wears_1 10 rfl rfl)
theorem dX6_wears_34 : decode cX6_wears 34 = .ok (.iload_n 2, 1) := dk_28 (dk_at dksX6_wears_1 11 rfl rfl)
theorem dX6_wears_35 : decode cX6_wears 35 = .ok (.iastore, 1) := dk_79 (dk_at dksX6_wears_1 12 rfl rfl)
theorem dX6_wears_36 : decode cX6_wears 36 = .ok (.iload_n 3, 1) := dk_29 (dk_at dksX6_wears_1 13 rfl rfl)
theorem dX6_wears_37 : decode cX6_wears 37 = .ok (.ireturn, 1) := dk_172 (dk_at dksX6_wears_1 14 rfl rfl)
abbrev cX6_ahead : ByteArray := prog_23_method_24_code
def yX6_ahead : MethodName := ⟨RX6, "ahead", "(II)I"⟩
def dkwX6_ahead_1 : List UInt8 := [42, 16, 250, 182, 0, 127, 172, 42, 180, 0, 44, 27, 46, 62, 42, 180, 0, 44, 27, 28, 79, 29, 172]
abbrev dktX6_ahead_1 : List UInt8 := dkwX6_ahead_1 ++ []
def dkwX6_ahead_0 : List UInt8 := [42, 27, 182, 0, 131, 154, 0, 9, 42, 2, 182, 0, 127, 172, 28, 155, 0, 9, 28, 16, 99, 164, 0, 10]
abbrev dktX6_ahead_0 : List UInt8 := dkwX6_ahead_0 ++ dktX6_ahead_1
theorem dksX6_ahead_0 : cX6_ahead.data.toList.drop 0 = dktX6_ahead_0 := by decide +kernel
theorem dksX6_ahead_1 : cX6_ahead.data.toList.drop 24 = dktX6_ahead_1 := dk_seg dksX6_ahead_0 24 rfl rfl
theorem dX6_ahead_0 : decode cX6_ahead 0 = .ok (.aload_n 0, 1) := dk_42 (dk_at dksX6_ahead_0 0 rfl rfl)
theorem dX6_ahead_1 : decode cX6_ahead 1 = .ok (.iload_n 1, 1) := dk_27 (dk_at dksX6_ahead_0 1 rfl rfl)
theorem dX6_ahead_2 : decode cX6_ahead 2 = .ok (.invokevirtual 131, 3) := dk_182 0 131 (dk_at dksX6_ahead_0 2 rfl rfl)
theorem dX6_ahead_5 : decode cX6_ahead 5 = .ok (.ifCond .ne 9, 3) := dk_154 0 9 (dk_at dksX6_ahead_0 5 rfl rfl)
theorem dX6_ahead_8 : decode cX6_ahead 8 = .ok (.aload_n 0, 1) := dk_42 (dk_at dksX6_ahead_0 8 rfl rfl)
theorem dX6_ahead_9 : decode cX6_ahead 9 = .ok (.iconst (-1), 1) := dk_2 (dk_at dksX6_ahead_0 9 rfl rfl)
theorem dX6_ahead_10 : decode cX6_ahead 10 = .ok (.invokevirtual 127, 3) := dk_182 0 127 (dk_at dksX6_ahead_0 10 rfl rfl)
theorem dX6_ahead_13 : decode cX6_ahead 13 = .ok (.ireturn, 1) := dk_172 (dk_at dksX6_ahead_0 13 rfl rfl)
theorem dX6_ahead_14 : decode cX6_ahead 14 = .ok (.iload_n 2, 1) := dk_28 (dk_at dksX6_ahead_0 14 rfl rfl)
theorem dX6_ahead_15 : decode cX6_ahead 15 = .ok (.ifCond .lt 9, 3) := dk_155 0 9 (dk_at dksX6_ahead_0 15 rfl rfl)
theorem dX6_ahead_18 : decode cX6_ahead 18 = .ok (.iload_n 2, 1) := dk_28 (dk_at dksX6_ahead_0 18 rfl rfl)
theorem dX6_ahead_19 : decode cX6_ahead 19 = .ok (.bipush 99, 2) := dk_16 99 (dk_at dksX6_ahead_0 19 rfl rfl)
theorem dX6_ahead_21 : decode cX6_ahead 21 = .ok (.if_icmp .le 10, 3) := dk_164 0 10 (dk_at dksX6_ahead_0 21 rfl rfl)
theorem dX6_ahead_24 : decode cX6_ahead 24 = .ok (.aload_n 0, 1) := dk_42 (dk_at dksX6_ahead_1 0 rfl rfl)
theorem dX6_ahead_25 : decode cX6_ahead 25 = .ok (.bipush (-6), 2) := dk_16 250 (dk_at dksX6_ahead_1 1 rfl rfl)
theorem dX6_ahead_27 : decode cX6_ahead 27 = .ok (.invokevirtual 127, 3) := dk_182 0 127 (dk_at dksX6_ahead_1 3 rfl rfl)
theorem dX6_ahead_30 : decode cX6_ahead 30 = .ok (.ireturn, 1) := dk_172 (dk_at dksX6_ahead_1 6 rfl rfl)
theorem dX6_ahead_31 : decode cX6_ahead 31 = .ok (.aload_n 0, 1) := dk_42 (dk_at dksX6_ahead_1 7 rfl rfl)
theorem dX6_ahead_32 : decode cX6_ahead 32 = .ok (.getfield 44, 3) := dk_180 0 44 (dk_at dksX6_ahead_1 8 rfl rfl)
theorem dX6_ahead_35 : decode cX6_ahead 35 = .ok (.iload_n 1, 1) := dk_27 (dk_at dksX6_ahead_1 11 rfl rfl)
theorem dX6_ahead_36 : decode cX6_ahead 36 = .ok (.iaload, 1) := dk_46 (dk_at dksX6_ahead_1 12 rfl rfl)
theorem dX6_ahead_37 : decode cX6_ahead 37 = .ok (.istore_n 3, 1) := dk_62 (dk_at dksX6_ahead_1 13 rfl rfl)
theorem dX6_ahead_38 : decode cX6_ahead 38 = .ok (.aload_n 0, 1) := dk_42 (dk_at dksX6_ahead_1 14 rfl rfl)
theorem dX6_ahead_39 : decode cX6_ahead 39 = .ok (.getfield 44, 3) := dk_180 0 44 (dk_at dksX6_ahead_1 15 rfl rfl)
theorem dX6_ahead_42 : decode cX6_ahead 42 = .ok (.iload_n 1, 1) := dk_27 (dk_at dksX6_ahead_1 18 rfl rfl)
theorem dX6_ahead_43 : decode cX6_ahead 43 = .ok (.iload_n 2, 1) := dk_28 (dk_at dksX6_ahead_1 19 rfl rfl)
theorem dX6_ahead_44 : decode cX6_ahead 44 = .ok (.iastore, 1) := dk_79 (dk_at dksX6_ahead_1 20 rfl rfl)
theorem dX6_ahead_45 : decode cX6_ahead 45 = .ok (.iload_n 3, 1) := dk_29 (dk_at dksX6_ahead_1 21 rfl rfl)
theorem dX6_ahead_46 : decode cX6_ahead 46 = .ok (.ireturn, 1) := dk_172 (dk_at dksX6_ahead_1 22 rfl rfl)
abbrev cX6_ask : ByteArray := prog_23_method_28_code
def yX6_ask : MethodName := ⟨RX6, "ask", "(II)I"⟩
def dkwX6_ask_1 : List UInt8 := [172, 42, 27, 182, 0, 163, 62, 42, 27, 28, 182, 0, 166, 29, 172]
abbrev dktX6_ask_1 : List UInt8 := dkwX6_ask_1 ++ []
def dkwX6_ask_0 : List UInt8 := [27, 155, 0, 17, 27, 6, 163, 0, 12, 42, 27, 28, 182, 0, 159, 154, 0, 10, 42, 16, 250, 182, 0, 127]
abbrev dktX6_ask_0 : List UInt8 := dkwX6_ask_0 ++ dktX6_ask_1
theorem dksX6_ask_0 : cX6_ask.data.toList.drop 0 = dktX6_ask_0 := by decide +kernel
theorem dksX6_ask_1 : cX6_ask.data.toList.drop 24 = dktX6_ask_1 := dk_seg dksX6_ask_0 24 rfl rfl
theorem dX6_ask_0 : decode cX6_ask 0 = .ok (.iload_n 1, 1) := dk_27 (dk_at dksX6_ask_0 0 rfl rfl)
theorem dX6_ask_1 : decode cX6_ask 1 = .ok (.ifCond .lt 17, 3) := dk_155 0 17 (dk_at dksX6_ask_0 1 rfl rfl)
theorem dX6_ask_4 : decode cX6_ask 4 = .ok (.iload_n 1, 1) := dk_27 (dk_at dksX6_ask_0 4 rfl rfl)
theorem dX6_ask_5 : decode cX6_ask 5 = .ok (.iconst 3, 1) := dk_6 (dk_at dksX6_ask_0 5 rfl rfl)
theorem dX6_ask_6 : decode cX6_ask 6 = .ok (.if_icmp .gt 12, 3) := dk_163 0 12 (dk_at dksX6_ask_0 6 rfl rfl)
theorem dX6_ask_9 : decode cX6_ask 9 = .ok (.aload_n 0, 1) := dk_42 (dk_at dksX6_ask_0 9 rfl rfl)
theorem dX6_ask_10 : decode cX6_ask 10 = .ok (.iload_n 1, 1) := dk_27 (dk_at dksX6_ask_0 10 rfl rfl)
theorem dX6_ask_11 : decode cX6_ask 11 = .ok (.iload_n 2, 1) := dk_28 (dk_at dksX6_ask_0 11 rfl rfl)
theorem dX6_ask_12 : decode cX6_ask 12 = .ok (.invokevirtual 159, 3) := dk_182 0 159 (dk_at dksX6_ask_0 12 rfl rfl)
theorem dX6_ask_15 : decode cX6_ask 15 = .ok (.ifCond .ne 10, 3) := dk_154 0 10 (dk_at dksX6_ask_0 15 rfl rfl)
theorem dX6_ask_18 : decode cX6_ask 18 = .ok (.aload_n 0, 1) := dk_42 (dk_at dksX6_ask_0 18 rfl rfl)
theorem dX6_ask_19 : decode cX6_ask 19 = .ok (.bipush (-6), 2) := dk_16 250 (dk_at dksX6_ask_0 19 rfl rfl)
theorem dX6_ask_21 : decode cX6_ask 21 = .ok (.invokevirtual 127, 3) := dk_182 0 127 (dk_at dksX6_ask_0 21 rfl rfl)
theorem dX6_ask_24 : decode cX6_ask 24 = .ok (.ireturn, 1) := dk_172 (dk_at dksX6_ask_1 0 rfl rfl)
theorem dX6_ask_25 : decode cX6_ask 25 = .ok (.aload_n 0, 1) := dk_42 (dk_at dksX6_ask_1 1 rfl rfl)
theorem dX6_ask_26 : decode cX6_ask 26 = .ok (.iload_n 1, 1) := dk_27 (dk_at dksX6_ask_1 2 rfl rfl)
theorem dX6_ask_27 : decode cX6_ask 27 = .ok (.invokevirtual 163, 3) := dk_182 0 163 (dk_at dksX6_ask_1 3 rfl rfl)
theorem dX6_ask_30 : decode cX6_ask 30 = .ok (.istore_n 3, 1) := dk_62 (dk_at dksX6_ask_1 6 rfl rfl)
theorem dX6_ask_31 : decode cX6_ask 31 = .ok (.aload_n 0, 1) := dk_42 (dk_at dksX6_ask_1 7 rfl rfl)
theorem dX6_ask_32 : decode cX6_ask 32 = .ok (.iload_n 1, 1) := dk_27 (dk_at dksX6_ask_1 8 rfl rfl)
theorem dX6_ask_33 : decode cX6_ask 33 = .ok (.iload_n 2, 1) := dk_28 (dk_at dksX6_ask_1 9 rfl rfl)
theorem dX6_ask_34 : decode cX6_ask 34 = .ok (.invokevirtual 166, 3) := dk_182 0 166 (dk_at dksX6_ask_1 10 rfl rfl)
theorem dX6_ask_37 : decode cX6_ask 37 = .ok (.iload_n 3, 1) := dk_29 (dk_at dksX6_ask_1 13 rfl rfl)
theorem dX6_ask_38 : decode cX6_ask 38 = .ok (.ireturn, 1) := dk_172 (dk_at dksX6_ask_1 14 rfl rfl)
abbrev cX6_isAsked : ByteArray := prog_23_method_25_code
def yX6_isAsked : MethodName := ⟨RX6, "isAsked", "(II)Z"⟩
def dkwX6_isAsked_2 : List UInt8 := [16, 60, 163, 0, 7, 4, 167, 0, 4, 3, 172]
abbrev dktX6_isAsked_2 : List UInt8 := dkwX6_isAsked_2 ++ []
def dkwX6_isAsked_1 : List UInt8 := [167, 0, 25, 27, 4, 160, 0, 8, 16, 20, 167, 0, 15, 27, 5, 160, 0, 8, 16, 9, 167, 0, 5]
abbrev dktX6_isAsked_1 : List UInt8 := dkwX6_isAsked_1 ++ dktX6_isAsked_2
def dkwX6_isAsked_0 : List UInt8 := [28, 27, 5, 162, 0, 7, 4, 167, 0, 4, 3, 161, 0, 43, 28, 27, 154, 0, 9, 17, 0, 200]
abbrev dktX6_isAsked_0 : List UInt8 := dkwX6_isAsked_0 ++ dktX6_isAsked_1
theorem dksX6_isAsked_0 : cX6_isAsked.data.toList.drop 0 = dktX6_isAsked_0 := by decide +kernel
theorem dksX6_isAsked_1 : cX6_isAsked.data.toList.drop 22 = dktX6_isAsked_1 := dk_seg dksX6_isAsked_0 22 rfl rfl
theorem dksX6_isAsked_2 : cX6_isAsked.data.toList.drop 45 = dktX6_isAsked_2 := dk_seg dksX6_isAsked_1 23 rfl rfl
theorem dX6_isAsked_0 : decode cX6_isAsked 0 = .ok (.iload_n 2, 1) := dk_28 (dk_at dksX6_isAsked_0 0 rfl rfl)
theorem dX6_isAsked_1 : decode cX6_isAsked 1 = .ok (.iload_n 1, 1) := dk_27 (dk_at dksX6_isAsked_0 1 rfl rfl)
theorem dX6_isAsked_2 : decode cX6_isAsked 2 = .ok (.iconst 2, 1) := dk_5 (dk_at dksX6_isAsked_0 2 rfl rfl)
theorem dX6_isAsked_3 : decode cX6_isAsked 3 = .ok (.if_icmp .ge 7, 3) := dk_162 0 7 (dk_at dksX6_isAsked_0 3 rfl rfl)
theorem dX6_isAsked_6 : decode cX6_isAsked 6 = .ok (.iconst 1, 1) := dk_4 (dk_at dksX6_isAsked_0 6 rfl rfl)
theorem dX6_isAsked_7 : decode cX6_isAsked 7 = .ok (.goto 4, 3) := dk_167 0 4 (dk_at dksX6_isAsked_0 7 rfl rfl)
theorem dX6_isAsked_10 : decode cX6_isAsked 10 = .ok (.iconst 0, 1) := dk_3 (dk_at dksX6_isAsked_0 10 rfl rfl)
theorem dX6_isAsked_11 : decode cX6_isAsked 11 = .ok (.if_icmp .lt 43, 3) := dk_161 0 43 (dk_at dksX6_isAsked_0 11 rfl rfl)
theorem dX6_isAsked_14 : decode cX6_isAsked 14 = .ok (.iload_n 2, 1) := dk_28 (dk_at dksX6_isAsked_0 14 rfl rfl)
theorem dX6_isAsked_15 : decode cX6_isAsked 15 = .ok (.iload_n 1, 1) := dk_27 (dk_at dksX6_isAsked_0 15 rfl rfl)
theorem dX6_isAsked_16 : decode cX6_isAsked 16 = .ok (.ifCond .ne 9, 3) := dk_154 0 9 (dk_at dksX6_isAsked_0 16 rfl rfl)
theorem dX6_isAsked_19 : decode cX6_isAsked 19 = .ok (.sipush 200, 3) := dk_17 0 200 (dk_at dksX6_isAsked_0 19 rfl rfl)
theorem dX6_isAsked_22 : decode cX6_isAsked 22 = .ok (.goto 25, 3) := dk_167 0 25 (dk_at dksX6_isAsked_1 0 rfl rfl)
theorem dX6_isAsked_25 : decode cX6_isAsked 25 = .ok (.iload_n 1, 1) := dk_27 (dk_at dksX6_isAsked_1 3 rfl rfl)
theorem dX6_isAsked_26 : decode cX6_isAsked 26 = .ok (.iconst 1, 1) := dk_4 (dk_at dksX6_isAsked_1 4 rfl rfl)
theorem dX6_isAsked_27 : decode cX6_isAsked 27 = .ok (.if_icmp .ne 8, 3) := dk_160 0 8 (dk_at dksX6_isAsked_1 5 rfl rfl)
theorem dX6_isAsked_30 : decode cX6_isAsked 30 = .ok (.bipush 20, 2) := dk_16 20 (dk_at dksX6_isAsked_1 8 rfl rfl)
theorem dX6_isAsked_32 : decode cX6_isAsked 32 = .ok (.goto 15, 3) := dk_167 0 15 (dk_at dksX6_isAsked_1 10 rfl rfl)
theorem dX6_isAsked_35 : decode cX6_isAsked 35 = .ok (.iload_n 1, 1) := dk_27 (dk_at dksX6_isAsked_1 13 rfl rfl)
theorem dX6_isAsked_36 : decode cX6_isAsked 36 = .ok (.iconst 2, 1) := dk_5 (dk_at dksX6_isAsked_1 14 rfl rfl)
theorem dX6_isAsked_37 : decode cX6_isAsked 37 = .ok (.if_icmp .ne 8, 3) := dk_160 0 8 (dk_at dksX6_isAsked_1 15 rfl rfl)
theorem dX6_isAsked_40 : decode cX6_isAsked 40 = .ok (.bipush 9, 2) := dk_16 9 (dk_at dksX6_isAsked_1 18 rfl rfl)
theorem dX6_isAsked_42 : decode cX6_isAsked 42 = .ok (.goto 5, 3) := dk_167 0 5 (dk_at dksX6_isAsked_1 20 rfl rfl)
theorem dX6_isAsked_45 : decode cX6_isAsked 45 = .ok (.bipush 60, 2) := dk_16 60 (dk_at dksX6_isAsked_2 0 rfl rfl)
theorem dX6_isAsked_47 : decode cX6_isAsked 47 = .ok (.if_icmp .gt 7, 3) := dk_163 0 7 (dk_at dksX6_isAsked_2 2 rfl rfl)
theorem dX6_isAsked_50 : decode cX6_isAsked 50 = .ok (.iconst 1, 1) := dk_4 (dk_at dksX6_isAsked_2 5 rfl rfl)
theorem dX6_isAsked_51 : decode cX6_isAsked 51 = .ok (.goto 4, 3) := dk_167 0 4 (dk_at dksX6_isAsked_2 6 rfl rfl)
theorem dX6_isAsked_54 : decode cX6_isAsked 54 = .ok (.iconst 0, 1) := dk_3 (dk_at dksX6_isAsked_2 9 rfl rfl)
theorem dX6_isAsked_55 : decode cX6_isAsked 55 = .ok (.ireturn, 1) := dk_172 (dk_at dksX6_isAsked_2 10 rfl rfl)
abbrev cX6_told : ByteArray := prog_23_method_26_code
def yX6_told : MethodName := ⟨RX6, "told", "(I)I"⟩
def dkwX6_told_1 : List UInt8 := [5, 160, 0, 10, 42, 180, 0, 16, 167, 0, 7, 42, 180, 0, 19, 172]
abbrev dktX6_told_1 : List UInt8 := dkwX6_told_1 ++ []
def dkwX6_told_0 : List UInt8 := [27, 154, 0, 10, 42, 180, 0, 7, 167, 0, 31, 27, 4, 160, 0, 10, 42, 180, 0, 13, 167, 0, 19, 27]
abbrev dktX6_told_0 : List UInt8 := dkwX6_told_0 ++ dktX6_told_1
theorem dksX6_told_0 : cX6_told.data.toList.drop 0 = dktX6_told_0 := by decide +kernel
theorem dksX6_told_1 : cX6_told.data.toList.drop 24 = dktX6_told_1 := dk_seg dksX6_told_0 24 rfl rfl
theorem dX6_told_0 : decode cX6_told 0 = .ok (.iload_n 1, 1) := dk_27 (dk_at dksX6_told_0 0 rfl rfl)
theorem dX6_told_1 : decode cX6_told 1 = .ok (.ifCond .ne 10, 3) := dk_154 0 10 (dk_at dksX6_told_0 1 rfl rfl)
theorem dX6_told_4 : decode cX6_told 4 = .ok (.aload_n 0, 1) := dk_42 (dk_at dksX6_told_0 4 rfl rfl)
theorem dX6_told_5 : decode cX6_told 5 = .ok (.getfield 7, 3) := dk_180 0 7 (dk_at dksX6_told_0 5 rfl rfl)
theorem dX6_told_8 : decode cX6_told 8 = .ok (.goto 31, 3) := dk_167 0 31 (dk_at dksX6_told_0 8 rfl rfl)
theorem dX6_told_11 : decode cX6_told 11 = .ok (.iload_n 1, 1) := dk_27 (dk_at dksX6_told_0 11 rfl rfl)
theorem dX6_told_12 : decode cX6_told 12 = .ok (.iconst 1, 1) := dk_4 (dk_at dksX6_told_0 12 rfl rfl)
theorem dX6_told_13 : decode cX6_told 13 = .ok (.if_icmp .ne 10, 3) := dk_160 0 10 (dk_at dksX6_told_0 13 rfl rfl)
theorem dX6_told_16 : decode cX6_told 16 = .ok (.aload_n 0, 1) := dk_42 (dk_at dksX6_told_0 16 rfl rfl)
theorem dX6_told_17 : decode cX6_told 17 = .ok (.getfield 13, 3) := dk_180 0 13 (dk_at dksX6_told_0 17 rfl rfl)
theorem dX6_told_20 : decode cX6_told 20 = .ok (.goto 19, 3) := dk_167 0 19 (dk_at dksX6_told_0 20 rfl rfl)
theorem dX6_told_23 : decode cX6_told 23 = .ok (.iload_n 1, 1) := dk_27 (dk_at dksX6_told_0 23 rfl rfl)
theorem dX6_told_24 : decode cX6_told 24 = .ok (.iconst 2, 1) := dk_5 (dk_at dksX6_told_1 0 rfl rfl)
theorem dX6_told_25 : decode cX6_told 25 = .ok (.if_icmp .ne 10, 3) := dk_160 0 10 (dk_at dksX6_told_1 1 rfl rfl)
theorem dX6_told_28 : decode cX6_told 28 = .ok (.aload_n 0, 1) := dk_42 (dk_at dksX6_told_1 4 rfl rfl)
theorem dX6_told_29 : decode cX6_told 29 = .ok (.getfield 16, 3) := dk_180 0 16 (dk_at dksX6_told_1 5 rfl rfl)
theorem dX6_told_32 : decode cX6_told 32 = .ok (.goto 7, 3) := dk_167 0 7 (dk_at dksX6_told_1 8 rfl rfl)
theorem dX6_told_35 : decode cX6_told 35 = .ok (.aload_n 0, 1) := dk_42 (dk_at dksX6_told_1 11 rfl rfl)
theorem dX6_told_36 : decode cX6_told 36 = .ok (.getfield 19, 3) := dk_180 0 19 (dk_at dksX6_told_1 12 rfl rfl)
theorem dX6_told_39 : decode cX6_told 39 = .ok (.ireturn, 1) := dk_172 (dk_at dksX6_told_1 15 rfl rfl)
abbrev cX6_tells : ByteArray := prog_23_method_27_code
def yX6_tells : MethodName := ⟨RX6, "tells", "(II)V"⟩
def dkwX6_tells_3 : List UInt8 := [42, 28, 181, 0, 19, 177]
abbrev dktX6_tells_3 : List UInt8 := dkwX6_tells_3 ++ []
def dkwX6_tells_2 : List UInt8 := [42, 28, 181, 0, 7, 167, 0, 24, 42, 28, 181, 0, 13, 167, 0, 16, 42, 28, 181, 0, 16, 167, 0, 8]
abbrev dktX6_tells_2 : List UInt8 := dkwX6_tells_2 ++ dktX6_tells_3
def dkwX6_tells_1 : List UInt8 := [170, 0, 0, 0, 0, 0, 51, 0, 0, 0, 0, 0, 0, 0, 2, 0, 0, 0, 27, 0, 0, 0, 35, 0, 0, 0, 43]
abbrev dktX6_tells_1 : List UInt8 := dkwX6_tells_1 ++ dktX6_tells_2
def dkwX6_tells_0 : List UInt8 := [27]
abbrev dktX6_tells_0 : List UInt8 := dkwX6_tells_0 ++ dktX6_tells_1
theorem dksX6_tells_0 : cX6_tells.data.toList.drop 0 = dktX6_tells_0 := by decide +kernel
theorem dksX6_tells_1 : cX6_tells.data.toList.drop 1 = dktX6_tells_1 := dk_seg dksX6_tells_0 1 rfl rfl
theorem dksX6_tells_2 : cX6_tells.data.toList.drop 28 = dktX6_tells_2 := dk_seg dksX6_tells_1 27 rfl rfl
theorem dksX6_tells_3 : cX6_tells.data.toList.drop 52 = dktX6_tells_3 := dk_seg dksX6_tells_2 24 rfl rfl
theorem dX6_tells_0 : decode cX6_tells 0 = .ok (.iload_n 1, 1) := dk_27 (dk_at dksX6_tells_0 0 rfl rfl)
theorem dX6_tells_1 : decode cX6_tells 1 = .ok (.tableswitch 51 0 2 #[27, 35, 43], 27) := by decide +kernel
theorem dX6_tells_28 : decode cX6_tells 28 = .ok (.aload_n 0, 1) := dk_42 (dk_at dksX6_tells_2 0 rfl rfl)
theorem dX6_tells_29 : decode cX6_tells 29 = .ok (.iload_n 2, 1) := dk_28 (dk_at dksX6_tells_2 1 rfl rfl)
theorem dX6_tells_30 : decode cX6_tells 30 = .ok (.putfield 7, 3) := dk_181 0 7 (dk_at dksX6_tells_2 2 rfl rfl)
theorem dX6_tells_33 : decode cX6_tells 33 = .ok (.goto 24, 3) := dk_167 0 24 (dk_at dksX6_tells_2 5 rfl rfl)
theorem dX6_tells_36 : decode cX6_tells 36 = .ok (.aload_n 0, 1) := dk_42 (dk_at dksX6_tells_2 8 rfl rfl)
theorem dX6_tells_37 : decode cX6_tells 37 = .ok (.iload_n 2, 1) := dk_28 (dk_at dksX6_tells_2 9 rfl rfl)
theorem dX6_tells_38 : decode cX6_tells 38 = .ok (.putfield 13, 3) := dk_181 0 13 (dk_at dksX6_tells_2 10 rfl rfl)
theorem dX6_tells_41 : decode cX6_tells 41 = .ok (.goto 16, 3) := dk_167 0 16 (dk_at dksX6_tells_2 13 rfl rfl)
theorem dX6_tells_44 : decode cX6_tells 44 = .ok (.aload_n 0, 1) := dk_42 (dk_at dksX6_tells_2 16 rfl rfl)
theorem dX6_tells_45 : decode cX6_tells 45 = .ok (.iload_n 2, 1) := dk_28 (dk_at dksX6_tells_2 17 rfl rfl)
theorem dX6_tells_46 : decode cX6_tells 46 = .ok (.putfield 16, 3) := dk_181 0 16 (dk_at dksX6_tells_2 18 rfl rfl)
theorem dX6_tells_49 : decode cX6_tells 49 = .ok (.goto 8, 3) := dk_167 0 8 (dk_at dksX6_tells_2 21 rfl rfl)
theorem dX6_tells_52 : decode cX6_tells 52 = .ok (.aload_n 0, 1) := dk_42 (dk_at dksX6_tells_3 0 rfl rfl)
theorem dX6_tells_53 : decode cX6_tells 53 = .ok (.iload_n 2, 1) := dk_28 (dk_at dksX6_tells_3 1 rfl rfl)
theorem dX6_tells_54 : decode cX6_tells 54 = .ok (.putfield 19, 3) := dk_181 0 19 (dk_at dksX6_tells_3 2 rfl rfl)
theorem dX6_tells_57 : decode cX6_tells 57 = .ok (.return_, 1) := dk_177 (dk_at dksX6_tells_3 5 rfl rfl)
abbrev cX6_roll : ByteArray := prog_23_method_29_code
def yX6_roll : MethodName := ⟨RX6, "roll", "(Z)I"⟩
def dkwX6_roll_0 : List UInt8 := [42, 180, 0, 170, 61, 42, 27, 153, 0, 7, 4, 167, 0, 4, 3, 181, 0, 170, 28, 172]
abbrev dktX6_roll_0 : List UInt8 := dkwX6_roll_0 ++ []
theorem dksX6_roll_0 : cX6_roll.data.toList.drop 0 = dktX6_roll_0 := by decide +kernel
theorem dX6_roll_0 : decode cX6_roll 0 = .ok (.aload_n 0, 1) := dk_42 (dk_at dksX6_roll_0 0 rfl rfl)
theorem dX6_roll_1 : decode cX6_roll 1 = .ok (.getfield 170, 3) := dk_180 0 170 (dk_at dksX6_roll_0 1 rfl rfl)
theorem dX6_roll_4 : decode cX6_roll 4 = .ok (.istore_n 2, 1) := dk_61 (dk_at dksX6_roll_0 4 rfl rfl)
theorem dX6_roll_5 : decode cX6_roll 5 = .ok (.aload_n 0, 1) := dk_42 (dk_at dksX6_roll_0 5 rfl rfl)
theorem dX6_roll_6 : decode cX6_roll 6 = .ok (.iload_n 1, 1) := dk_27 (dk_at dksX6_roll_0 6 rfl rfl)
theorem dX6_roll_7 : decode cX6_roll 7 = .ok (.ifCond .eq 7, 3) := dk_153 0 7 (dk_at dksX6_roll_0 7 rfl rfl)
theorem dX6_roll_10 : decode cX6_roll 10 = .ok (.iconst 1, 1) := dk_4 (dk_at dksX6_roll_0 10 rfl rfl)
theorem dX6_roll_11 : decode cX6_roll 11 = .ok (.goto 4, 3) := dk_167 0 4 (dk_at dksX6_roll_0 11 rfl rfl)
theorem dX6_roll_14 : decode cX6_roll 14 = .ok (.iconst 0, 1) := dk_3 (dk_at dksX6_roll_0 14 rfl rfl)
theorem dX6_roll_15 : decode cX6_roll 15 = .ok (.putfield 170, 3) := dk_181 0 170 (dk_at dksX6_roll_0 15 rfl rfl)
theorem dX6_roll_18 : decode cX6_roll 18 = .ok (.iload_n 2, 1) := dk_28 (dk_at dksX6_roll_0 18 rfl rfl)
theorem dX6_roll_19 : decode cX6_roll 19 = .ok (.ireturn, 1) := dk_172 (dk_at dksX6_roll_0 19 rfl rfl)
abbrev cX6_field : ByteArray := prog_23_method_39_code
def yX6_field : MethodName := ⟨RX6, "field", "(I)I"⟩
def dkwX6_field_6 : List UInt8 := [42, 42, 180, 0, 84, 4, 182, 0, 217, 42, 42, 180, 0, 173, 181, 0, 25, 42, 16, 250, 182, 0, 127, 172]
abbrev dktX6_field_6 : List UInt8 := dkwX6_field_6 ++ []
def dkwX6_field_5 : List UInt8 := [4, 96, 181, 0, 176, 132, 3, 1, 42, 182, 0, 221, 54, 4, 167, 255, 188, 21, 4, 153, 0, 5, 29, 172]
abbrev dktX6_field_5 : List UInt8 := dkwX6_field_5 ++ dktX6_field_6
def dkwX6_field_4 : List UInt8 := [136, 16, 59, 159, 0, 16, 42, 42, 180, 0, 176, 182, 0, 192, 54, 4, 167, 255, 210, 42, 89, 180, 0, 176]
abbrev dktX6_field_4 : List UInt8 := dkwX6_field_4 ++ dktX6_field_5
def dkwX6_field_3 : List UInt8 := [180, 0, 176, 42, 180, 0, 179, 162, 0, 58, 42, 180, 0, 68, 42, 180, 0, 182, 42, 180, 0, 176, 96, 47]
abbrev dktX6_field_3 : List UInt8 := dkwX6_field_3 ++ dktX6_field_4
def dkwX6_field_2 : List UInt8 := [181, 0, 179, 42, 2, 181, 0, 25, 4, 62, 42, 182, 0, 221, 54, 4, 21, 4, 153, 0, 69, 42]
abbrev dktX6_field_2 : List UInt8 := dkwX6_field_2 ++ dktX6_field_3
def dkwX6_field_1 : List UInt8 := [182, 0, 217, 42, 17, 0, 160, 27, 104, 181, 0, 182, 42, 3, 181, 0, 176, 42, 42, 180, 0, 62, 27, 46]
abbrev dktX6_field_1 : List UInt8 := dkwX6_field_1 ++ dktX6_field_2
def dkwX6_field_0 : List UInt8 := [42, 27, 182, 0, 214, 61, 28, 153, 0, 9, 42, 28, 182, 0, 127, 172, 42, 42, 180, 0, 84, 3]
abbrev dktX6_field_0 : List UInt8 := dkwX6_field_0 ++ dktX6_field_1
theorem dksX6_field_0 : cX6_field.data.toList.drop 0 = dktX6_field_0 := by decide +kernel
theorem dksX6_field_1 : cX6_field.data.toList.drop 22 = dktX6_field_1 := dk_seg dksX6_field_0 22 rfl rfl
theorem dksX6_field_2 : cX6_field.data.toList.drop 46 = dktX6_field_2 := dk_seg dksX6_field_1 24 rfl rfl
theorem dksX6_field_3 : cX6_field.data.toList.drop 68 = dktX6_field_3 := dk_seg dksX6_field_2 22 rfl rfl
theorem dksX6_field_4 : cX6_field.data.toList.drop 92 = dktX6_field_4 := dk_seg dksX6_field_3 24 rfl rfl
theorem dksX6_field_5 : cX6_field.data.toList.drop 116 = dktX6_field_5 := dk_seg dksX6_field_4 24 rfl rfl
theorem dksX6_field_6 : cX6_field.data.toList.drop 140 = dktX6_field_6 := dk_seg dksX6_field_5 24 rfl rfl
theorem dX6_field_0 : decode cX6_field 0 = .ok (.aload_n 0, 1) := dk_42 (dk_at dksX6_field_0 0 rfl rfl)
theorem dX6_field_1 : decode cX6_field 1 = .ok (.iload_n 1, 1) := dk_27 (dk_at dksX6_field_0 1 rfl rfl)
theorem dX6_field_2 : decode cX6_field 2 = .ok (.invokevirtual 214, 3) := dk_182 0 214 (dk_at dksX6_field_0 2 rfl rfl)
theorem dX6_field_5 : decode cX6_field 5 = .ok (.istore_n 2, 1) := dk_61 (dk_at dksX6_field_0 5 rfl rfl)
theorem dX6_field_6 : decode cX6_field 6 = .ok (.iload_n 2, 1) := dk_28 (dk_at dksX6_field_0 6 rfl rfl)
theorem dX6_field_7 : decode cX6_field 7 = .ok (.ifCond .eq 9, 3) := dk_153 0 9 (dk_at dksX6_field_0 7 rfl rfl)
theorem dX6_field_10 : decode cX6_field 10 = .ok (.aload_n 0, 1) := dk_42 (dk_at dksX6_field_0 10 rfl rfl)
theorem dX6_field_11 : decode cX6_field 11 = .ok (.iload_n 2, 1) := dk_28 (dk_at dksX6_field_0 11 rfl rfl)
theorem dX6_field_12 : decode cX6_field 12 = .ok (.invokevirtual 127, 3) := dk_182 0 127 (dk_at dksX6_field_0 12 rfl rfl)
theorem dX6_field_15 : decode cX6_field 15 = .ok (.ireturn, 1) := dk_172 (dk_at dksX6_field_0 15 rfl rfl)
theorem dX6_field_16 : decode cX6_field 16 = .ok (.aload_n 0, 1) := dk_42 (dk_at dksX6_field_0 16 rfl rfl)
theorem dX6_field_17 : decode cX6_field 17 = .ok (.aload_n 0, 1) := dk_42 (dk_at dksX6_field_0 17 rfl rfl)
theorem dX6_field_18 : decode cX6_field 18 = .ok (.getfield 84, 3) := dk_180 0 84 (dk_at dksX6_field_0 18 rfl rfl)
theorem dX6_field_21 : decode cX6_field 21 = .ok (.iconst 0, 1) := dk_3 (dk_at dksX6_field_0 21 rfl rfl)
theorem dX6_field_22 : decode cX6_field 22 = .ok (.invokevirtual 217, 3) := dk_182 0 217 (dk_at dksX6_field_1 0 rfl rfl)
theorem dX6_field_25 : decode cX6_field 25 = .ok (.aload_n 0, 1) := dk_42 (dk_at dksX6_field_1 3 rfl rfl)
theorem dX6_field_26 : decode cX6_field 26 = .ok (.sipush 160, 3) := dk_17 0 160 (dk_at dksX6_field_1 4 rfl rfl)
theorem dX6_field_29 : decode cX6_field 29 = .ok (.iload_n 1, 1) := dk_27 (dk_at dksX6_field_1 7 rfl rfl)
theorem dX6_field_30 : decode cX6_field 30 = .ok (.imul, 1) := dk_104 (dk_at dksX6_field_1 8 rfl rfl)
theorem dX6_field_31 : decode cX6_field 31 = .ok (.putfield 182, 3) := dk_181 0 182 (dk_at dksX6_field_1 9 rfl rfl)
theorem dX6_field_34 : decode cX6_field 34 = .ok (.aload_n 0, 1) := dk_42 (dk_at dksX6_field_1 12 rfl rfl)
theorem dX6_field_35 : decode cX6_field 35 = .ok (.iconst 0, 1) := dk_3 (dk_at dksX6_field_1 13 rfl rfl)
theorem dX6_field_36 : decode cX6_field 36 = .ok (.putfield 176, 3) := dk_181 0 176 (dk_at dksX6_field_1 14 rfl rfl)
theorem dX6_field_39 : decode cX6_field 39 = .ok (.aload_n 0, 1) := dk_42 (dk_at dksX6_field_1 17 rfl rfl)
theorem dX6_field_40 : decode cX6_field 40 = .ok (.aload_n 0, 1) := dk_42 (dk_at dksX6_field_1 18 rfl rfl)
theorem dX6_field_41 : decode cX6_field 41 = .ok (.getfield 62, 3) := dk_180 0 62 (dk_at dksX6_field_1 19 rfl rfl)
theorem dX6_field_44 : decode cX6_field 44 = .ok (.iload_n 1, 1) := dk_27 (dk_at dksX6_field_1 22 rfl rfl)
theorem dX6_field_45 : decode cX6_field 45 = .ok (.iaload, 1) := dk_46 (dk_at dksX6_field_1 23 rfl rfl)
theorem dX6_field_46 : decode cX6_field 46 = .ok (.putfield 179, 3) := dk_181 0 179 (dk_at dksX6_field_2 0 rfl rfl)
theorem dX6_field_49 : decode cX6_field 49 = .ok (.aload_n 0, 1) := dk_42 (dk_at dksX6_field_2 3 rfl rfl)
theorem dX6_field_50 : decode cX6_field 50 = .ok (.iconst (-1), 1) := dk_2 (dk_at dksX6_field_2 4 rfl rfl)
theorem dX6_field_51 : decode cX6_field 51 = .ok (.putfield 25, 3) := dk_181 0 25 (dk_at dksX6_field_2 5 rfl rfl)
theorem dX6_field_54 : decode cX6_field 54 = .ok (.iconst 1, 1) := dk_4 (dk_at dksX6_field_2 8 rfl rfl)
theorem dX6_field_55 : decode cX6_field 55 = .ok (.istore_n 3, 1) := dk_62 (dk_at dksX6_field_2 9 rfl rfl)
theorem dX6_field_56 : decode cX6_field 56 = .ok (.aload_n 0, 1) := dk_42 (dk_at dksX6_field_2 10 rfl rfl)
theorem dX6_field_57 : decode cX6_field 57 = .ok (.invokevirtual 221, 3) := dk_182 0 221 (dk_at dksX6_field_2 11 rfl rfl)
theorem dX6_field_60 : decode cX6_field 60 = .ok (.istore 4, 2) := dk_54 4 (dk_at dksX6_field_2 14 rfl rfl)
theorem dX6_field_62 : decode cX6_field 62 = .ok (.iload 4, 2) := dk_21 4 (dk_at dksX6_field_2 16 rfl rfl)
theorem dX6_field_64 : decode cX6_field 64 = .ok (.ifCond .eq 69, 3) := dk_153 0 69 (dk_at dksX6_field_2 18 rfl rfl)
theorem dX6_field_67 : decode cX6_field 67 = .ok (.aload_n 0, 1) := dk_42 (dk_at dksX6_field_2 21 rfl rfl)
theorem dX6_field_68 : decode cX6_field 68 = .ok (.getfield 176, 3) := dk_180 0 176 (dk_at dksX6_field_3 0 rfl rfl)
theorem dX6_field_71 : decode cX6_field 71 = .ok (.aload_n 0, 1) := dk_42 (dk_at dksX6_field_3 3 rfl rfl)
theorem dX6_field_72 : decode cX6_field 72 = .ok (.getfield 179, 3) := dk_180 0 179 (dk_at dksX6_field_3 4 rfl rfl)
theorem dX6_field_75 : decode cX6_field 75 = .ok (.if_icmp .ge 58, 3) := dk_162 0 58 (dk_at dksX6_field_3 7 rfl rfl)
theorem dX6_field_78 : decode cX6_field 78 = .ok (.aload_n 0, 1) := dk_42 (dk_at dksX6_field_3 10 rfl rfl)
theorem dX6_field_79 : decode cX6_field 79 = .ok (.getfield 68, 3) := dk_180 0 68 (dk_at dksX6_field_3 11 rfl rfl)
theorem dX6_field_82 : decode cX6_field 82 = .ok (.aload_n 0, 1) := dk_42 (dk_at dksX6_field_3 14 rfl rfl)
theorem dX6_field_83 : decode cX6_field 83 = .ok (.getfield 182, 3) := dk_180 0 182 (dk_at dksX6_field_3 15 rfl rfl)
theorem dX6_field_86 : decode cX6_field 86 = .ok (.aload_n 0, 1) := dk_42 (dk_at dksX6_field_3 18 rfl rfl)
theorem dX6_field_87 : decode cX6_field 87 = .ok (.getfield 176, 3) := dk_180 0 176 (dk_at dksX6_field_3 19 rfl rfl)
theorem dX6_field_90 : decode cX6_field 90 = .ok (.iadd, 1) := dk_96 (dk_at dksX6_field_3 22 rfl rfl)
theorem dX6_field_91 : decode cX6_field 91 = .ok (.laload, 1) := dk_47 (dk_at dksX6_field_3 23 rfl rfl)
theorem dX6_field_92 : decode cX6_field 92 = .ok (.l2i, 1) := dk_136 (dk_at dksX6_field_4 0 rfl rfl)
theorem dX6_field_93 : decode cX6_field 93 = .ok (.bipush 59, 2) := dk_16 59 (dk_at dksX6_field_4 1 rfl rfl)
theorem dX6_field_95 : decode cX6_field 95 = .ok (.if_icmp .eq 16, 3) := dk_159 0 16 (dk_at dksX6_field_4 3 rfl rfl)
theorem dX6_field_98 : decode cX6_field 98 = .ok (.aload_n 0, 1) := dk_42 (dk_at dksX6_field_4 6 rfl rfl)
theorem dX6_field_99 : decode cX6_field 99 = .ok (.aload_n 0, 1) := dk_42 (dk_at dksX6_field_4 7 rfl rfl)
theorem dX6_field_100 : decode cX6_field 100 = .ok (.getfield 176, 3) := dk_180 0 176 (dk_at dksX6_field_4 8 rfl rfl)
theorem dX6_field_103 : decode cX6_field 103 = .ok (.invokevirtual 192, 3) := dk_182 0 192 (dk_at dksX6_field_4 11 rfl rfl)
theorem dX6_field_106 : decode cX6_field 106 = .ok (.istore 4, 2) := dk_54 4 (dk_at dksX6_field_4 14 rfl rfl)
theorem dX6_field_108 : decode cX6_field 108 = .ok (.goto (-46), 3) := dk_167 255 210 (dk_at dksX6_field_4 16 rfl rfl)
theorem dX6_field_111 : decode cX6_field 111 = .ok (.aload_n 0, 1) := dk_42 (dk_at dksX6_field_4 19 rfl rfl)
theorem dX6_field_112 : decode cX6_field 112 = .ok (.dup, 1) := dk_89 (dk_at dksX6_field_4 20 rfl rfl)
theorem dX6_field_113 : decode cX6_field 113 = .ok (.getfield 176, 3) := dk_180 0 176 (dk_at dksX6_field_4 21 rfl rfl)
theorem dX6_field_116 : decode cX6_field 116 = .ok (.iconst 1, 1) := dk_4 (dk_at dksX6_field_5 0 rfl rfl)
theorem dX6_field_117 : decode cX6_field 117 = .ok (.iadd, 1) := dk_96 (dk_at dksX6_field_5 1 rfl rfl)
theorem dX6_field_118 : decode cX6_field 118 = .ok (.putfield 176, 3) := dk_181 0 176 (dk_at dksX6_field_5 2 rfl rfl)
theorem dX6_field_121 : decode cX6_field 121 = .ok (.iinc 3 1, 3) := dk_132 3 1 (dk_at dksX6_field_5 5 rfl rfl)
theorem dX6_field_124 : decode cX6_field 124 = .ok (.aload_n 0, 1) := dk_42 (dk_at dksX6_field_5 8 rfl rfl)
theorem dX6_field_125 : decode cX6_field 125 = .ok (.invokevirtual 221, 3) := dk_182 0 221 (dk_at dksX6_field_5 9 rfl rfl)
theorem dX6_field_128 : decode cX6_field 128 = .ok (.istore 4, 2) := dk_54 4 (dk_at dksX6_field_5 12 rfl rfl)
theorem dX6_field_130 : decode cX6_field 130 = .ok (.goto (-68), 3) := dk_167 255 188 (dk_at dksX6_field_5 14 rfl rfl)
theorem dX6_field_133 : decode cX6_field 133 = .ok (.iload 4, 2) := dk_21 4 (dk_at dksX6_field_5 17 rfl rfl)
theorem dX6_field_135 : decode cX6_field 135 = .ok (.ifCond .eq 5, 3) := dk_153 0 5 (dk_at dksX6_field_5 19 rfl rfl)
theorem dX6_field_138 : decode cX6_field 138 = .ok (.iload_n 3, 1) := dk_29 (dk_at dksX6_field_5 22 rfl rfl)
theorem dX6_field_139 : decode cX6_field 139 = .ok (.ireturn, 1) := dk_172 (dk_at dksX6_field_5 23 rfl rfl)
theorem dX6_field_140 : decode cX6_field 140 = .ok (.aload_n 0, 1) := dk_42 (dk_at dksX6_field_6 0 rfl rfl)
theorem dX6_field_141 : decode cX6_field 141 = .ok (.aload_n 0, 1) := dk_42 (dk_at dksX6_field_6 1 rfl rfl)
theorem dX6_field_142 : decode cX6_field 142 = .ok (.getfield 84, 3) := dk_180 0 84 (dk_at dksX6_field_6 2 rfl rfl)
theorem dX6_field_145 : decode cX6_field 145 = .ok (.iconst 1, 1) := dk_4 (dk_at dksX6_field_6 5 rfl rfl)
theorem dX6_field_146 : decode cX6_field 146 = .ok (.invokevirtual 217, 3) := dk_182 0 217 (dk_at dksX6_field_6 6 rfl rfl)
theorem dX6_field_149 : decode cX6_field 149 = .ok (.aload_n 0, 1) := dk_42 (dk_at dksX6_field_6 9 rfl rfl)
theorem dX6_field_150 : decode cX6_field 150 = .ok (.aload_n 0, 1) := dk_42 (dk_at dksX6_field_6 10 rfl rfl)
theorem dX6_field_151 : decode cX6_field 151 = .ok (.getfield 173, 3) := dk_180 0 173 (dk_at dksX6_field_6 11 rfl rfl)
theorem dX6_field_154 : decode cX6_field 154 = .ok (.putfield 25, 3) := dk_181 0 25 (dk_at dksX6_field_6 14 rfl rfl)
theorem dX6_field_157 : decode cX6_field 157 = .ok (.aload_n 0, 1) := dk_42 (dk_at dksX6_field_6 17 rfl rfl)
theorem dX6_field_158 : decode cX6_field 158 = .ok (.bipush (-6), 2) := dk_16 250 (dk_at dksX6_field_6 18 rfl rfl)
theorem dX6_field_160 : decode cX6_field 160 = .ok (.invokevirtual 127, 3) := dk_182 0 127 (dk_at dksX6_field_6 20 rfl rfl)
theorem dX6_field_163 : decode cX6_field 163 = .ok (.ireturn, 1) := dk_172 (dk_at dksX6_field_6 23 rfl rfl)
abbrev cX6_wanted : ByteArray := prog_23_method_15_code
def yX6_wanted : MethodName := ⟨RX6, "wanted", "(I)I"⟩
def dkwX6_wanted_1 : List UInt8 := [167, 0, 18, 42, 180, 0, 56, 27, 46, 154, 0, 8, 16, 253, 167, 0, 4, 3, 172]
abbrev dktX6_wanted_1 : List UInt8 := dkwX6_wanted_1 ++ []
def dkwX6_wanted_0 : List UInt8 := [42, 27, 182, 0, 123, 154, 0, 7, 2, 167, 0, 33, 42, 180, 0, 56, 27, 46, 5, 160, 0, 8, 16, 254]
abbrev dktX6_wanted_0 : List UInt8 := dkwX6_wanted_0 ++ dktX6_wanted_1
theorem dksX6_wanted_0 : cX6_wanted.data.toList.drop 0 = dktX6_wanted_0 := by decide +kernel
theorem dksX6_wanted_1 : cX6_wanted.data.toList.drop 24 = dktX6_wanted_1 := dk_seg dksX6_wanted_0 24 rfl rfl
theorem dX6_wanted_0 : decode cX6_wanted 0 = .ok (.aload_n 0, 1) := dk_42 (dk_at dksX6_wanted_0 0 rfl rfl)
theorem dX6_wanted_1 : decode cX6_wanted 1 = .ok (.iload_n 1, 1) := dk_27 (dk_at dksX6_wanted_0 1 rfl rfl)
theorem dX6_wanted_2 : decode cX6_wanted 2 = .ok (.invokevirtual 123, 3) := dk_182 0 123 (dk_at dksX6_wanted_0 2 rfl rfl)
theorem dX6_wanted_5 : decode cX6_wanted 5 = .ok (.ifCond .ne 7, 3) := dk_154 0 7 (dk_at dksX6_wanted_0 5 rfl rfl)
theorem dX6_wanted_8 : decode cX6_wanted 8 = .ok (.iconst (-1), 1) := dk_2 (dk_at dksX6_wanted_0 8 rfl rfl)
theorem dX6_wanted_9 : decode cX6_wanted 9 = .ok (.goto 33, 3) := dk_167 0 33 (dk_at dksX6_wanted_0 9 rfl rfl)
theorem dX6_wanted_12 : decode cX6_wanted 12 = .ok (.aload_n 0, 1) := dk_42 (dk_at dksX6_wanted_0 12 rfl rfl)
theorem dX6_wanted_13 : decode cX6_wanted 13 = .ok (.getfield 56, 3) := dk_180 0 56 (dk_at dksX6_wanted_0 13 rfl rfl)
theorem dX6_wanted_16 : decode cX6_wanted 16 = .ok (.iload_n 1, 1) := dk_27 (dk_at dksX6_wanted_0 16 rfl rfl)
theorem dX6_wanted_17 : decode cX6_wanted 17 = .ok (.iaload, 1) := dk_46 (dk_at dksX6_wanted_0 17 rfl rfl)
theorem dX6_wanted_18 : decode cX6_wanted 18 = .ok (.iconst 2, 1) := dk_5 (dk_at dksX6_wanted_0 18 rfl rfl)
theorem dX6_wanted_19 : decode cX6_wanted 19 = .ok (.if_icmp .ne 8, 3) := dk_160 0 8 (dk_at dksX6_wanted_0 19 rfl rfl)
theorem dX6_wanted_22 : decode cX6_wanted 22 = .ok (.bipush (-2), 2) := dk_16 254 (dk_at dksX6_wanted_0 22 rfl rfl)
theorem dX6_wanted_24 : decode cX6_wanted 24 = .ok (.goto 18, 3) := dk_167 0 18 (dk_at dksX6_wanted_1 0 rfl rfl)
theorem dX6_wanted_27 : decode cX6_wanted 27 = .ok (.aload_n 0, 1) := dk_42 (dk_at dksX6_wanted_1 3 rfl rfl)
theorem dX6_wanted_28 : decode cX6_wanted 28 = .ok (.getfield 56, 3) := dk_180 0 56 (dk_at dksX6_wanted_1 4 rfl rfl)
theorem dX6_wanted_31 : decode cX6_wanted 31 = .ok (.iload_n 1, 1) := dk_27 (dk_at dksX6_wanted_1 7 rfl rfl)
theorem dX6_wanted_32 : decode cX6_wanted 32 = .ok (.iaload, 1) := dk_46 (dk_at dksX6_wanted_1 8 rfl rfl)
theorem dX6_wanted_33 : decode cX6_wanted 33 = .ok (.ifCond .ne 8, 3) := dk_154 0 8 (dk_at dksX6_wanted_1 9 rfl rfl)
theorem dX6_wanted_36 : decode cX6_wanted 36 = .ok (.bipush (-3), 2) := dk_16 253 (dk_at dksX6_wanted_1 12 rfl rfl)
theorem dX6_wanted_38 : decode cX6_wanted 38 = .ok (.goto 4, 3) := dk_167 0 4 (dk_at dksX6_wanted_1 14 rfl rfl)
theorem dX6_wanted_41 : decode cX6_wanted 41 = .ok (.iconst 0, 1) := dk_3 (dk_at dksX6_wanted_1 17 rfl rfl)
theorem dX6_wanted_42 : decode cX6_wanted 42 = .ok (.ireturn, 1) := dk_172 (dk_at dksX6_wanted_1 18 rfl rfl)
abbrev cX6_all : ByteArray := prog_23_method_38_code
def yX6_all : MethodName := ⟨RX6, "all", "([IZ)V"⟩
def dkwX6_all_10 : List UInt8 := [79, 177]
abbrev dktX6_all_10 : List UInt8 := dkwX6_all_10 ++ []
def dkwX6_all_9 : List UInt8 := [5, 96, 42, 180, 0, 170, 79, 43, 29, 6, 96, 42, 180, 0, 211, 79, 43, 29, 7, 96, 42, 180, 0, 22]
abbrev dktX6_all_9 : List UInt8 := dkwX6_all_9 ++ dktX6_all_10
def dkwX6_all_8 : List UInt8 := [181, 0, 22, 167, 0, 46, 43, 29, 42, 180, 0, 117, 79, 43, 29, 4, 96, 42, 180, 0, 120, 79, 43, 29]
abbrev dktX6_all_8 : List UInt8 := dkwX6_all_8 ++ dktX6_all_9
def dkwX6_all_7 : List UInt8 := [43, 29, 5, 96, 46, 181, 0, 170, 42, 43, 29, 6, 96, 46, 181, 0, 211, 42, 43, 29, 7, 96, 46]
abbrev dktX6_all_7 : List UInt8 := dkwX6_all_7 ++ dktX6_all_8
def dkwX6_all_6 : List UInt8 := [132, 3, 4, 28, 153, 0, 49, 42, 43, 29, 46, 181, 0, 117, 42, 43, 29, 4, 96, 46, 181, 0, 120, 42]
abbrev dktX6_all_6 : List UInt8 := dkwX6_all_6 ++ dktX6_all_7
def dkwX6_all_5 : List UInt8 := [182, 0, 166, 167, 0, 15, 43, 29, 21, 4, 96, 42, 21, 4, 182, 0, 163, 79, 132, 4, 1, 167, 255, 216]
abbrev dktX6_all_5 : List UInt8 := dkwX6_all_5 ++ dktX6_all_6
def dkwX6_all_4 : List UInt8 := [3, 54, 4, 21, 4, 7, 162, 0, 40, 28, 153, 0, 18, 42, 21, 4, 43, 29, 21, 4, 96, 46]
abbrev dktX6_all_4 : List UInt8 := dkwX6_all_4 ++ dktX6_all_5
def dkwX6_all_3 : List UInt8 := [42, 42, 180, 0, 50, 43, 29, 28, 182, 0, 207, 62, 42, 42, 180, 0, 53, 43, 29, 28, 182, 0, 207, 62]
abbrev dktX6_all_3 : List UInt8 := dkwX6_all_3 ++ dktX6_all_4
def dkwX6_all_2 : List UInt8 := [42, 42, 180, 0, 44, 43, 29, 28, 182, 0, 207, 62, 42, 42, 180, 0, 47, 43, 29, 28, 182, 0, 207, 62]
abbrev dktX6_all_2 : List UInt8 := dkwX6_all_2 ++ dktX6_all_3
def dkwX6_all_1 : List UInt8 := [42, 42, 180, 0, 38, 43, 29, 28, 182, 0, 207, 62, 42, 42, 180, 0, 41, 43, 29, 28, 182, 0, 207, 62]
abbrev dktX6_all_1 : List UInt8 := dkwX6_all_1 ++ dktX6_all_2
def dkwX6_all_0 : List UInt8 := [42, 42, 180, 0, 32, 43, 3, 28, 182, 0, 207, 62, 42, 42, 180, 0, 35, 43, 29, 28, 182, 0, 207, 62]
abbrev dktX6_all_0 : List UInt8 := dkwX6_all_0 ++ dktX6_all_1
theorem dksX6_all_0 : cX6_all.data.toList.drop 0 = dktX6_all_0 := by decide +kernel
theorem dksX6_all_1 : cX6_all.data.toList.drop 24 = dktX6_all_1 := dk_seg dksX6_all_0 24 rfl rfl
theorem dksX6_all_2 : cX6_all.data.toList.drop 48 = dktX6_all_2 := dk_seg dksX6_all_1 24 rfl rfl
theorem dksX6_all_3 : cX6_all.data.toList.drop 72 = dktX6_all_3 := dk_seg dksX6_all_2 24 rfl rfl
theorem dksX6_all_4 : cX6_all.data.toList.drop 96 = dktX6_all_4 := dk_seg dksX6_all_3 24 rfl rfl
theorem dksX6_all_5 : cX6_all.data.toList.drop 118 = dktX6_all_5 := dk_seg dksX6_all_4 22 rfl rfl
theorem dksX6_all_6 : cX6_all.data.toList.drop 142 = dktX6_all_6 := dk_seg dksX6_all_5 24 rfl rfl
theorem dksX6_all_7 : cX6_all.data.toList.drop 166 = dktX6_all_7 := dk_seg dksX6_all_6 24 rfl rfl
theorem dksX6_all_8 : cX6_all.data.toList.drop 189 = dktX6_all_8 := dk_seg dksX6_all_7 23 rfl rfl
theorem dksX6_all_9 : cX6_all.data.toList.drop 213 = dktX6_all_9 := dk_seg dksX6_all_8 24 rfl rfl
theorem dksX6_all_10 : cX6_all.data.toList.drop 237 = dktX6_all_10 := dk_seg dksX6_all_9 24 rfl rfl
theorem dX6_all_0 : decode cX6_all 0 = .ok (.aload_n 0, 1) := dk_42 (dk_at dksX6_all_0 0 rfl rfl)
theorem dX6_all_1 : decode cX6_all 1 = .ok (.aload_n 0, 1) := dk_42 (dk_at dksX6_all_0 1 rfl rfl)
theorem dX6_all_2 : decode cX6_all 2 = .ok (.getfield 32, 3) := dk_180 0 32 (dk_at dksX6_all_0 2 rfl rfl)
theorem dX6_all_5 : decode cX6_all 5 = .ok (.aload_n 1, 1) := dk_43 (dk_at dksX6_all_0 5 rfl rfl)
theorem dX6_all_6 : decode cX6_all 6 = .ok (.iconst 0, 1) := dk_3 (dk_at dksX6_all_0 6 rfl rfl)
theorem dX6_all_7 : decode cX6_all 7 = .ok (.iload_n 2, 1) := dk_28 (dk_at dksX6_all_0 7 rfl rfl)
theorem dX6_all_8 : decode cX6_all 8 = .ok (.invokevirtual 207, 3) := dk_182 0 207 (dk_at dksX6_all_0 8 rfl rfl)
theorem dX6_all_11 : decode cX6_all 11 = .ok (.istore_n 3, 1) := dk_62 (dk_at dksX6_all_0 11 rfl rfl)
theorem dX6_all_12 : decode cX6_all 12 = .ok (.aload_n 0, 1) := dk_42 (dk_at dksX6_all_0 12 rfl rfl)
theorem dX6_all_13 : decode cX6_all 13 = .ok (.aload_n 0, 1) := dk_42 (dk_at dksX6_all_0 13 rfl rfl)
theorem dX6_all_14 : decode cX6_all 14 = .ok (.getfield 35, 3) := dk_180 0 35 (dk_at dksX6_all_0 14 rfl rfl)
theorem dX6_all_17 : decode cX6_all 17 = .ok (.aload_n 1, 1) := dk_43 (dk_at dksX6_all_0 17 rfl rfl)
theorem dX6_all_18 : decode cX6_all 18 = .ok (.iload_n 3, 1) := dk_29 (dk_at dksX6_all_0 18 rfl rfl)
theorem dX6_all_19 : decode cX6_all 19 = .ok (.iload_n 2, 1) := dk_28 (dk_at dksX6_all_0 19 rfl rfl)
theorem dX6_all_20 : decode cX6_all 20 = .ok (.invokevirtual 207, 3) := dk_182 0 207 (dk_at dksX6_all_0 20 rfl rfl)
theorem dX6_all_23 : decode cX6_all 23 = .ok (.istore_n 3, 1) := dk_62 (dk_at dksX6_all_0 23 rfl rfl)
theorem dX6_all_24 : decode cX6_all 24 = .ok (.aload_n 0, 1) := dk_42 (dk_at dksX6_all_1 0 rfl rfl)
theorem dX6_all_25 : decode cX6_all 25 = .ok (.aload_n 0, 1) := dk_42 (dk_at dksX6_all_1 1 rfl rfl)
theorem dX6_all_26 : decode cX6_all 26 = .ok (.getfield 38, 3) := dk_180 0 38 (dk_at dksX6_all_1 2 rfl rfl)
theorem dX6_all_29 : decode cX6_all 29 = .ok (.aload_n 1, 1) := dk_43 (dk_at dksX6_all_1 5 rfl rfl)
theorem dX6_all_30 : decode cX6_all 30 = .ok (.iload_n 3, 1) := dk_29 (dk_at dksX6_all_1 6 rfl rfl)
theorem dX6_all_31 : decode cX6_all 31 = .ok (.iload_n 2, 1) := dk_28 (dk_at dksX6_all_1 7 rfl rfl)
theorem dX6_all_32 : decode cX6_all 32 = .ok (.invokevirtual 207, 3) := dk_182 0 207 (dk_at dksX6_all_1 8 rfl rfl)
theorem dX6_all_35 : decode cX6_all 35 = .ok (.istore_n 3, 1) := dk_62 (dk_at dksX6_all_1 11 rfl rfl)
theorem dX6_all_36 : decode cX6_all 36 = .ok (.aload_n 0, 1) := dk_42 (dk_at dksX6_all_1 12 rfl rfl)
theorem dX6_all_37 : decode cX6_all 37 = .ok (.aload_n 0, 1) := dk_42 (dk_at dksX6_all_1 13 rfl rfl)
theorem dX6_all_38 : decode cX6_all 38 = .ok (.getfield 41, 3) := dk_180 0 41 (dk_at dksX6_all_1 14 rfl rfl)
theorem dX6_all_41 : decode cX6_all 41 = .ok (.aload_n 1, 1) := dk_43 (dk_at dksX6_all_1 17 rfl rfl)
theorem dX6_all_42 : decode cX6_all 42 = .ok (.iload_n 3, 1) := dk_29 (dk_at dksX6_all_1 18 rfl rfl)
theorem dX6_all_43 : decode cX6_all 43 = .ok (.iload_n 2, 1) := dk_28 (dk_at dksX6_all_1 19 rfl rfl)
theorem dX6_all_44 : decode cX6_all 44 = .ok (.invokevirtual 207, 3) := dk_182 0 207 (dk_at dksX6_all_1 20 rfl rfl)
theorem dX6_all_47 : decode cX6_all 47 = .ok (.istore_n 3, 1) := dk_62 (dk_at dksX6_all_1 23 rfl rfl)
theorem dX6_all_48 : decode cX6_all 48 = .ok (.aload_n 0, 1) := dk_42 (dk_at dksX6_all_2 0 rfl rfl)
theorem dX6_all_49 : decode cX6_all 49 = .ok (.aload_n 0, 1) := dk_42 (dk_at dksX6_all_2 1 rfl rfl)
theorem dX6_all_50 : decode cX6_all 50 = .ok (.getfield 44, 3) := dk_180 0 44 (dk_at dksX6_all_2 2 rfl rfl)
theorem dX6_all_53 : decode cX6_all 53 = .ok (.aload_n 1, 1) := dk_43 (dk_at dksX6_all_2 5 rfl rfl)
theorem dX6_all_54 : decode cX6_all 54 = .ok (.iload_n 3, 1) := dk_29 (dk_at dksX6_all_2 6 rfl rfl)
theorem dX6_all_55 : decode cX6_all 55 = .ok (.iload_n 2, 1) := dk_28 (dk_at dksX6_all_2 7 rfl rfl)
theorem dX6_all_56 : decode cX6_all 56 = .ok (.invokevirtual 207, 3) := dk_182 0 207 (dk_at dksX6_all_2 8 rfl rfl)
theorem dX6_all_59 : decode cX6_all 59 = .ok (.istore_n 3, 1) := dk_62 (dk_at dksX6_all_2 11 rfl rfl)
theorem dX6_all_60 : decode cX6_all 60 = .ok (.aload_n 0, 1) := dk_42 (dk_at dksX6_all_2 12 rfl rfl)
theorem dX6_all_61 : decode cX6_all 61 = .ok (.aload_n 0, 1) := dk_42 (dk_at dksX6_all_2 13 rfl rfl)
theorem dX6_all_62 : decode cX6_all 62 = .ok (.getfield 47, 3) := dk_180 0 47 (dk_at dksX6_all_2 14 rfl rfl)
theorem dX6_all_65 : decode cX6_all 65 = .ok (.aload_n 1, 1) := dk_43 (dk_at dksX6_all_2 17 rfl rfl)
theorem dX6_all_66 : decode cX6_all 66 = .ok (.iload_n 3, 1) := dk_29 (dk_at dksX6_all_2 18 rfl rfl)
theorem dX6_all_67 : decode cX6_all 67 = .ok (.iload_n 2, 1) := dk_28 (dk_at dksX6_all_2 19 rfl rfl)
theorem dX6_all_68 : decode cX6_all 68 = .ok (.invokevirtual 207, 3) := dk_182 0 207 (dk_at dksX6_all_2 20 rfl rfl)
theorem dX6_all_71 : decode cX6_all 71 = .ok (.istore_n 3, 1) := dk_62 (dk_at dksX6_all_2 23 rfl rfl)
theorem dX6_all_72 : decode cX6_all 72 = .ok (.aload_n 0, 1) := dk_42 (dk_at dksX6_all_3 0 rfl rfl)
theorem dX6_all_73 : decode cX6_all 73 = .ok (.aload_n 0, 1) := dk_42 (dk_at dksX6_all_3 1 rfl rfl)
theorem dX6_all_74 : decode cX6_all 74 = .ok (.getfield 50, 3) := dk_180 0 50 (dk_at dksX6_all_3 2 rfl rfl)
theorem dX6_all_77 : decode cX6_all 77 = .ok (.aload_n 1, 1) := dk_43 (dk_at dksX6_all_3 5 rfl rfl)
theorem dX6_all_78 : decode cX6_all 78 = .ok (.iload_n 3, 1) := dk_29 (dk_at dksX6_all_3 6 rfl rfl)
theorem dX6_all_79 : decode cX6_all 79 = .ok (.iload_n 2, 1) := dk_28 (dk_at dksX6_all_3 7 rfl rfl)
theorem dX6_all_80 : decode cX6_all 80 = .ok (.invokevirtual 207, 3) := dk_182 0 207 (dk_at dksX6_all_3 8 rfl rfl)
theorem dX6_all_83 : decode cX6_all 83 = .ok (.istore_n 3, 1) := dk_62 (dk_at dksX6_all_3 11 rfl rfl)
theorem dX6_all_84 : decode cX6_all 84 = .ok (.aload_n 0, 1) := dk_42 (dk_at dksX6_all_3 12 rfl rfl)
theorem dX6_all_85 : decode cX6_all 85 = .ok (.aload_n 0, 1) := dk_42 (dk_at dksX6_all_3 13 rfl rfl)
theorem dX6_all_86 : decode cX6_all 86 = .ok (.getfield 53, 3) := dk_180 0 53 (dk_at dksX6_all_3 14 rfl rfl)
theorem dX6_all_89 : decode cX6_all 89 = .ok (.aload_n 1, 1) := dk_43 (dk_at dksX6_all_3 17 rfl rfl)
theorem dX6_all_90 : decode cX6_all 90 = .ok (.iload_n 3, 1) := dk_29 (dk_at dksX6_all_3 18 rfl rfl)
theorem dX6_all_91 : decode cX6_all 91 = .ok (.iload_n 2, 1) := dk_28 (dk_at dksX6_all_3 19 rfl rfl)
theorem dX6_all_92 : decode cX6_all 92 = .ok (.invokevirtual 207, 3) := dk_182 0 207 (dk_at dksX6_all_3 20 rfl rfl)
theorem dX6_all_95 : decode cX6_all 95 = .ok (.istore_n 3, 1) := dk_62 (dk_at dksX6_all_3 23 rfl rfl)
theorem dX6_all_96 : decode cX6_all 96 = .ok (.iconst 0, 1) := dk_3 (dk_at dksX6_all_4 0 rfl rfl)
theorem dX6_all_97 : decode cX6_all 97 = .ok (.istore 4, 2) := dk_54 4 (dk_at dksX6_all_4 1 rfl rfl)
theorem dX6_all_99 : decode cX6_all 99 = .ok (.iload 4, 2) := dk_21 4 (dk_at dksX6_all_4 3 rfl rfl)
theorem dX6_all_101 : decode cX6_all 101 = .ok (.iconst 4, 1) := dk_7 (dk_at dksX6_all_4 5 rfl rfl)
theorem dX6_all_102 : decode cX6_all 102 = .ok (.if_icmp .ge 40, 3) := dk_162 0 40 (dk_at dksX6_all_4 6 rfl rfl)
theorem dX6_all_105 : decode cX6_all 105 = .ok (.iload_n 2, 1) := dk_28 (dk_at dksX6_all_4 9 rfl rfl)
theorem dX6_all_106 : decode cX6_all 106 = .ok (.ifCond .eq 18, 3) := dk_153 0 18 (dk_at dksX6_all_4 10 rfl rfl)
theorem dX6_all_109 : decode cX6_all 109 = .ok (.aload_n 0, 1) := dk_42 (dk_at dksX6_all_4 13 rfl rfl)
theorem dX6_all_110 : decode cX6_all 110 = .ok (.iload 4, 2) := dk_21 4 (dk_at dksX6_all_4 14 rfl rfl)
theorem dX6_all_112 : decode cX6_all 112 = .ok (.aload_n 1, 1) := dk_43 (dk_at dksX6_all_4 16 rfl rfl)
theorem dX6_all_113 : decode cX6_all 113 = .ok (.iload_n 3, 1) := dk_29 (dk_at dksX6_all_4 17 rfl rfl)
theorem dX6_all_114 : decode cX6_all 114 = .ok (.iload 4, 2) := dk_21 4 (dk_at dksX6_all_4 18 rfl rfl)
theorem dX6_all_116 : decode cX6_all 116 = .ok (.iadd, 1) := dk_96 (dk_at dksX6_all_4 20 rfl rfl)
theorem dX6_all_117 : decode cX6_all 117 = .ok (.iaload, 1) := dk_46 (dk_at dksX6_all_4 21 rfl rfl)
theorem dX6_all_118 : decode cX6_all 118 = .ok (.invokevirtual 166, 3) := dk_182 0 166 (dk_at dksX6_all_5 0 rfl rfl)
theorem dX6_all_121 : decode cX6_all 121 = .ok (.goto 15, 3) := dk_167 0 15 (dk_at dksX6_all_5 3 rfl rfl)
theorem dX6_all_124 : decode cX6_all 124 = .ok (.aload_n 1, 1) := dk_43 (dk_at dksX6_all_5 6 rfl rfl)
theorem dX6_all_125 : decode cX6_all 125 = .ok (.iload_n 3, 1) := dk_29 (dk_at dksX6_all_5 7 rfl rfl)
theorem dX6_all_126 : decode cX6_all 126 = .ok (.iload 4, 2) := dk_21 4 (dk_at dksX6_all_5 8 rfl rfl)
theorem dX6_all_128 : decode cX6_all 128 = .ok (.iadd, 1) := dk_96 (dk_at dksX6_all_5 10 rfl rfl)
theorem dX6_all_129 : decode cX6_all 129 = .ok (.aload_n 0, 1) := dk_42 (dk_at dksX6_all_5 11 rfl rfl)
theorem dX6_all_130 : decode cX6_all 130 = .ok (.iload 4, 2) := dk_21 4 (dk_at dksX6_all_5 12 rfl rfl)
theorem dX6_all_132 : decode cX6_all 132 = .ok (.invokevirtual 163, 3) := dk_182 0 163 (dk_at dksX6_all_5 14 rfl rfl)
theorem dX6_all_135 : decode cX6_all 135 = .ok (.iastore, 1) := dk_79 (dk_at dksX6_all_5 17 rfl rfl)
theorem dX6_all_136 : decode cX6_all 136 = .ok (.iinc 4 1, 3) := dk_132 4 1 (dk_at dksX6_all_5 18 rfl rfl)
theorem dX6_all_139 : decode cX6_all 139 = .ok (.goto (-40), 3) := dk_167 255 216 (dk_at dksX6_all_5 21 rfl rfl)
theorem dX6_all_142 : decode cX6_all 142 = .ok (.iinc 3 4, 3) := dk_132 3 4 (dk_at dksX6_all_6 0 rfl rfl)
theorem dX6_all_145 : decode cX6_all 145 = .ok (.iload_n 2, 1) := dk_28 (dk_at dksX6_all_6 3 rfl rfl)
theorem dX6_all_146 : decode cX6_all 146 = .ok (.ifCond .eq 49, 3) := dk_153 0 49 (dk_at dksX6_all_6 4 rfl rfl)
theorem dX6_all_149 : decode cX6_all 149 = .ok (.aload_n 0, 1) := dk_42 (dk_at dksX6_all_6 7 rfl rfl)
theorem dX6_all_150 : decode cX6_all 150 = .ok (.aload_n 1, 1) := dk_43 (dk_at dksX6_all_6 8 rfl rfl)
theorem dX6_all_151 : decode cX6_all 151 = .ok (.iload_n 3, 1) := dk_29 (dk_at dksX6_all_6 9 rfl rfl)
theorem dX6_all_152 : decode cX6_all 152 = .ok (.iaload, 1) := dk_46 (dk_at dksX6_all_6 10 rfl rfl)
theorem dX6_all_153 : decode cX6_all 153 = .ok (.putfield 117, 3) := dk_181 0 117 (dk_at dksX6_all_6 11 rfl rfl)
theorem dX6_all_156 : decode cX6_all 156 = .ok (.aload_n 0, 1) := dk_42 (dk_at dksX6_all_6 14 rfl rfl)
theorem dX6_all_157 : decode cX6_all 157 = .ok (.aload_n 1, 1) := dk_43 (dk_at dksX6_all_6 15 rfl rfl)
theorem dX6_all_158 : decode cX6_all 158 = .ok (.iload_n 3, 1) := dk_29 (dk_at dksX6_all_6 16 rfl rfl)
theorem dX6_all_159 : decode cX6_all 159 = .ok (.iconst 1, 1) := dk_4 (dk_at dksX6_all_6 17 rfl rfl)
theorem dX6_all_160 : decode cX6_all 160 = .ok (.iadd, 1) := dk_96 (dk_at dksX6_all_6 18 rfl rfl)
theorem dX6_all_161 : decode cX6_all 161 = .ok (.iaload, 1) := dk_46 (dk_at dksX6_all_6 19 rfl rfl)
theorem dX6_all_162 : decode cX6_all 162 = .ok (.putfield 120, 3) := dk_181 0 120 (dk_at dksX6_all_6 20 rfl rfl)
theorem dX6_all_165 : decode cX6_all 165 = .ok (.aload_n 0, 1) := dk_42 (dk_at dksX6_all_6 23 rfl rfl)
theorem dX6_all_166 : decode cX6_all 166 = .ok (.aload_n 1, 1) := dk_43 (dk_at dksX6_all_7 0 rfl rfl)
theorem dX6_all_167 : decode cX6_all 167 = .ok (.iload_n 3, 1) := dk_29 (dk_at dksX6_all_7 1 rfl rfl)
theorem dX6_all_168 : decode cX6_all 168 = .ok (.iconst 2, 1) := dk_5 (dk_at dksX6_all_7 2 rfl rfl)
theorem dX6_all_169 : decode cX6_all 169 = .ok (.iadd, 1) := dk_96 (dk_at dksX6_all_7 3 rfl rfl)
theorem dX6_all_170 : decode cX6_all 170 = .ok (.iaload, 1) := dk_46 (dk_at dksX6_all_7 4 rfl rfl)
theorem dX6_all_171 : decode cX6_all 171 = .ok (.putfield 170, 3) := dk_181 0 170 (dk_at dksX6_all_7 5 rfl rfl)
theorem dX6_all_174 : decode cX6_all 174 = .ok (.aload_n 0, 1) := dk_42 (dk_at dksX6_all_7 8 rfl rfl)
theorem dX6_all_175 : decode cX6_all 175 = .ok (.aload_n 1, 1) := dk_43 (dk_at dksX6_all_7 9 rfl rfl)
theorem dX6_all_176 : decode cX6_all 176 = .ok (.iload_n 3, 1) := dk_29 (dk_at dksX6_all_7 10 rfl rfl)
theorem dX6_all_177 : decode cX6_all 177 = .ok (.iconst 3, 1) := dk_6 (dk_at dksX6_all_7 11 rfl rfl)
theorem dX6_all_178 : decode cX6_all 178 = .ok (.iadd, 1) := dk_96 (dk_at dksX6_all_7 12 rfl rfl)
theorem dX6_all_179 : decode cX6_all 179 = .ok (.iaload, 1) := dk_46 (dk_at dksX6_all_7 13 rfl rfl)
theorem dX6_all_180 : decode cX6_all 180 = .ok (.putfield 211, 3) := dk_181 0 211 (dk_at dksX6_all_7 14 rfl rfl)
theorem dX6_all_183 : decode cX6_all 183 = .ok (.aload_n 0, 1) := dk_42 (dk_at dksX6_all_7 17 rfl rfl)
theorem dX6_all_184 : decode cX6_all 184 = .ok (.aload_n 1, 1) := dk_43 (dk_at dksX6_all_7 18 rfl rfl)
theorem dX6_all_185 : decode cX6_all 185 = .ok (.iload_n 3, 1) := dk_29 (dk_at dksX6_all_7 19 rfl rfl)
theorem dX6_all_186 : decode cX6_all 186 = .ok (.iconst 4, 1) := dk_7 (dk_at dksX6_all_7 20 rfl rfl)
theorem dX6_all_187 : decode cX6_all 187 = .ok (.iadd, 1) := dk_96 (dk_at dksX6_all_7 21 rfl rfl)
theorem dX6_all_188 : decode cX6_all 188 = .ok (.iaload, 1) := dk_46 (dk_at dksX6_all_7 22 rfl rfl)
theorem dX6_all_189 : decode cX6_all 189 = .ok (.putfield 22, 3) := dk_181 0 22 (dk_at dksX6_all_8 0 rfl rfl)
theorem dX6_all_192 : decode cX6_all 192 = .ok (.goto 46, 3) := dk_167 0 46 (dk_at dksX6_all_8 3 rfl rfl)
theorem dX6_all_195 : decode cX6_all 195 = .ok (.aload_n 1, 1) := dk_43 (dk_at dksX6_all_8 6 rfl rfl)
theorem dX6_all_196 : decode cX6_all 196 = .ok (.iload_n 3, 1) := dk_29 (dk_at dksX6_all_8 7 rfl rfl)
theorem dX6_all_197 : decode cX6_all 197 = .ok (.aload_n 0, 1) := dk_42 (dk_at dksX6_all_8 8 rfl rfl)
theorem dX6_all_198 : decode cX6_all 198 = .ok (.getfield 117, 3) := dk_180 0 117 (dk_at dksX6_all_8 9 rfl rfl)
theorem dX6_all_201 : decode cX6_all 201 = .ok (.iastore, 1) := dk_79 (dk_at dksX6_all_8 12 rfl rfl)
theorem dX6_all_202 : decode cX6_all 202 = .ok (.aload_n 1, 1) := dk_43 (dk_at dksX6_all_8 13 rfl rfl)
theorem dX6_all_203 : decode cX6_all 203 = .ok (.iload_n 3, 1) := dk_29 (dk_at dksX6_all_8 14 rfl rfl)
theorem dX6_all_204 : decode cX6_all 204 = .ok (.iconst 1, 1) := dk_4 (dk_at dksX6_all_8 15 rfl rfl)
theorem dX6_all_205 : decode cX6_all 205 = .ok (.iadd, 1) := dk_96 (dk_at dksX6_all_8 16 rfl rfl)
theorem dX6_all_206 : decode cX6_all 206 = .ok (.aload_n 0, 1) := dk_42 (dk_at dksX6_all_8 17 rfl rfl)
theorem dX6_all_207 : decode cX6_all 207 = .ok (.getfield 120, 3) := dk_180 0 120 (dk_at dksX6_all_8 18 rfl rfl)
theorem dX6_all_210 : decode cX6_all 210 = .ok (.iastore, 1) := dk_79 (dk_at dksX6_all_8 21 rfl rfl)
theorem dX6_all_211 : decode cX6_all 211 = .ok (.aload_n 1, 1) := dk_43 (dk_at dksX6_all_8 22 rfl rfl)
theorem dX6_all_212 : decode cX6_all 212 = .ok (.iload_n 3, 1) := dk_29 (dk_at dksX6_all_8 23 rfl rfl)
theorem dX6_all_213 : decode cX6_all 213 = .ok (.iconst 2, 1) := dk_5 (dk_at dksX6_all_9 0 rfl rfl)
theorem dX6_all_214 : decode cX6_all 214 = .ok (.iadd, 1) := dk_96 (dk_at dksX6_all_9 1 rfl rfl)
theorem dX6_all_215 : decode cX6_all 215 = .ok (.aload_n 0, 1) := dk_42 (dk_at dksX6_all_9 2 rfl rfl)
theorem dX6_all_216 : decode cX6_all 216 = .ok (.getfield 170, 3) := dk_180 0 170 (dk_at dksX6_all_9 3 rfl rfl)
theorem dX6_all_219 : decode cX6_all 219 = .ok (.iastore, 1) := dk_79 (dk_at dksX6_all_9 6 rfl rfl)
theorem dX6_all_220 : decode cX6_all 220 = .ok (.aload_n 1, 1) := dk_43 (dk_at dksX6_all_9 7 rfl rfl)
theorem dX6_all_221 : decode cX6_all 221 = .ok (.iload_n 3, 1) := dk_29 (dk_at dksX6_all_9 8 rfl rfl)
theorem dX6_all_222 : decode cX6_all 222 = .ok (.iconst 3, 1) := dk_6 (dk_at dksX6_all_9 9 rfl rfl)
theorem dX6_all_223 : decode cX6_all 223 = .ok (.iadd, 1) := dk_96 (dk_at dksX6_all_9 10 rfl rfl)
theorem dX6_all_224 : decode cX6_all 224 = .ok (.aload_n 0, 1) := dk_42 (dk_at dksX6_all_9 11 rfl rfl)
theorem dX6_all_225 : decode cX6_all 225 = .ok (.getfield 211, 3) := dk_180 0 211 (dk_at dksX6_all_9 12 rfl rfl)
theorem dX6_all_228 : decode cX6_all 228 = .ok (.iastore, 1) := dk_79 (dk_at dksX6_all_9 15 rfl rfl)
theorem dX6_all_229 : decode cX6_all 229 = .ok (.aload_n 1, 1) := dk_43 (dk_at dksX6_all_9 16 rfl rfl)
theorem dX6_all_230 : decode cX6_all 230 = .ok (.iload_n 3, 1) := dk_29 (dk_at dksX6_all_9 17 rfl rfl)
theorem dX6_all_231 : decode cX6_all 231 = .ok (.iconst 4, 1) := dk_7 (dk_at dksX6_all_9 18 rfl rfl)
theorem dX6_all_232 : decode cX6_all 232 = .ok (.iadd, 1) := dk_96 (dk_at dksX6_all_9 19 rfl rfl)
theorem dX6_all_233 : decode cX6_all 233 = .ok (.aload_n 0, 1) := dk_42 (dk_at dksX6_all_9 20 rfl rfl)
theorem dX6_all_234 : decode cX6_all 234 = .ok (.getfield 22, 3) := dk_180 0 22 (dk_at dksX6_all_9 21 rfl rfl)
theorem dX6_all_237 : decode cX6_all 237 = .ok (.iastore, 1) := dk_79 (dk_at dksX6_all_10 0 rfl rfl)
theorem dX6_all_238 : decode cX6_all 238 = .ok (.return_, 1) := dk_177 (dk_at dksX6_all_10 1 rfl rfl)
abbrev cX6_carries : ByteArray := prog_23_method_37_code
def yX6_carries : MethodName := ⟨RX6, "carries", "([I[IIZ)I"⟩
def dkwX6_carries_2 : List UInt8 := [172]
abbrev dktX6_carries_2 : List UInt8 := dkwX6_carries_2 ++ []
def dkwX6_carries_1 : List UInt8 := [79, 167, 0, 13, 44, 29, 21, 5, 96, 43, 21, 5, 46, 79, 132, 5, 1, 167, 255, 218, 29, 16, 8, 96]
abbrev dktX6_carries_1 : List UInt8 := dkwX6_carries_1 ++ dktX6_carries_2
def dkwX6_carries_0 : List UInt8 := [3, 54, 5, 21, 5, 16, 8, 162, 0, 37, 21, 4, 153, 0, 16, 43, 21, 5, 44, 29, 21, 5, 96, 46]
abbrev dktX6_carries_0 : List UInt8 := dkwX6_carries_0 ++ dktX6_carries_1
theorem dksX6_carries_0 : cX6_carries.data.toList.drop 0 = dktX6_carries_0 := by decide +kernel
theorem dksX6_carries_1 : cX6_carries.data.toList.drop 24 = dktX6_carries_1 := dk_seg dksX6_carries_0 24 rfl rfl
theorem dksX6_carries_2 : cX6_carries.data.toList.drop 48 = dktX6_carries_2 := dk_seg dksX6_carries_1 24 rfl rfl
theorem dX6_carries_0 : decode cX6_carries 0 = .ok (.iconst 0, 1) := dk_3 (dk_at dksX6_carries_0 0 rfl rfl)
theorem dX6_carries_1 : decode cX6_carries 1 = .ok (.istore 5, 2) := dk_54 5 (dk_at dksX6_carries_0 1 rfl rfl)
theorem dX6_carries_3 : decode cX6_carries 3 = .ok (.iload 5, 2) := dk_21 5 (dk_at dksX6_carries_0 3 rfl rfl)
theorem dX6_carries_5 : decode cX6_carries 5 = .ok (.bipush 8, 2) := dk_16 8 (dk_at dksX6_carries_0 5 rfl rfl)
theorem dX6_carries_7 : decode cX6_carries 7 = .ok (.if_icmp .ge 37, 3) := dk_162 0 37 (dk_at dksX6_carries_0 7 rfl rfl)
theorem dX6_carries_10 : decode cX6_carries 10 = .ok (.iload 4, 2) := dk_21 4 (dk_at dksX6_carries_0 10 rfl rfl)
theorem dX6_carries_12 : decode cX6_carries 12 = .ok (.ifCond .eq 16, 3) := dk_153 0 16 (dk_at dksX6_carries_0 12 rfl rfl)
theorem dX6_carries_15 : decode cX6_carries 15 = .ok (.aload_n 1, 1) := dk_43 (dk_at dksX6_carries_0 15 rfl rfl)
theorem dX6_carries_16 : decode cX6_carries 16 = .ok (.iload 5, 2) := dk_21 5 (dk_at dksX6_carries_0 16 rfl rfl)
theorem dX6_carries_18 : decode cX6_carries 18 = .ok (.aload_n 2, 1) := dk_44 (dk_at dksX6_carries_0 18 rfl rfl)
theorem dX6_carries_19 : decode cX6_carries 19 = .ok (.iload_n 3, 1) := dk_29 (dk_at dksX6_carries_0 19 rfl rfl)
theorem dX6_carries_20 : decode cX6_carries 20 = .ok (.iload 5, 2) := dk_21 5 (dk_at dksX6_carries_0 20 rfl rfl)
theorem dX6_carries_22 : decode cX6_carries 22 = .ok (.iadd, 1) := dk_96 (dk_at dksX6_carries_0 22 rfl rfl)
theorem dX6_carries_23 : decode cX6_carries 23 = .ok (.iaload, 1) := dk_46 (dk_at dksX6_carries_0 23 rfl rfl)
theorem dX6_carries_24 : decode cX6_carries 24 = .ok (.iastore, 1) := dk_79 (dk_at dksX6_carries_1 0 rfl rfl)
theorem dX6_carries_25 : decode cX6_carries 25 = .ok (.goto 13, 3) := dk_167 0 13 (dk_at dksX6_carries_1 1 rfl rfl)
theorem dX6_carries_28 : decode cX6_carries 28 = .ok (.aload_n 2, 1) := dk_44 (dk_at dksX6_carries_1 4 rfl rfl)
theorem dX6_carries_29 : decode cX6_carries 29 = .ok (.iload_n 3, 1) := dk_29 (dk_at dksX6_carries_1 5 rfl rfl)
theorem dX6_carries_30 : decode cX6_carries 30 = .ok (.iload 5, 2) := dk_21 5 (dk_at dksX6_carries_1 6 rfl rfl)
theorem dX6_carries_32 : decode cX6_carries 32 = .ok (.iadd, 1) := dk_96 (dk_at dksX6_carries_1 8 rfl rfl)
theorem dX6_carries_33 : decode cX6_carries 33 = .ok (.aload_n 1, 1) := dk_43 (dk_at dksX6_carries_1 9 rfl rfl)
theorem dX6_carries_34 : decode cX6_carries 34 = .ok (.iload 5, 2) := dk_21 5 (dk_at dksX6_carries_1 10 rfl rfl)
theorem dX6_carries_36 : decode cX6_carries 36 = .ok (.iaload, 1) := dk_46 (dk_at dksX6_carries_1 12 rfl rfl)
theorem dX6_carries_37 : decode cX6_carries 37 = .ok (.iastore, 1) := dk_79 (dk_at dksX6_carries_1 13 rfl rfl)
theorem dX6_carries_38 : decode cX6_carries 38 = .ok (.iinc 5 1, 3) := dk_132 5 1 (dk_at dksX6_carries_1 14 rfl rfl)
theorem dX6_carries_41 : decode cX6_carries 41 = .ok (.goto (-38), 3) := dk_167 255 218 (dk_at dksX6_carries_1 17 rfl rfl)
theorem dX6_carries_44 : decode cX6_carries 44 = .ok (.iload_n 3, 1) := dk_29 (dk_at dksX6_carries_1 20 rfl rfl)
theorem dX6_carries_45 : decode cX6_carries 45 = .ok (.bipush 8, 2) := dk_16 8 (dk_at dksX6_carries_1 21 rfl rfl)
theorem dX6_carries_47 : decode cX6_carries 47 = .ok (.iadd, 1) := dk_96 (dk_at dksX6_carries_1 23 rfl rfl)
theorem dX6_carries_48 : decode cX6_carries 48 = .ok (.ireturn, 1) := dk_172 (dk_at dksX6_carries_2 0 rfl rfl)
abbrev cX6_item : ByteArray := prog_23_method_36_code
def yX6_item : MethodName := ⟨RX6, "item", "()Z"⟩
def dkwX6_item_13 : List UInt8 := [46, 182, 0, 166, 4, 172]
abbrev dktX6_item_13 : List UInt8 := dkwX6_item_13 ++ []
def dkwX6_item_12 : List UInt8 := [180, 0, 81, 3, 46, 42, 180, 0, 81, 4, 46, 79, 167, 0, 16, 42, 27, 7, 100, 42, 180, 0, 81, 3]
abbrev dktX6_item_12 : List UInt8 := dkwX6_item_12 ++ dktX6_item_13
def dkwX6_item_11 : List UInt8 := [180, 0, 41, 42, 180, 0, 81, 3, 46, 42, 180, 0, 81, 4, 46, 79, 167, 0, 36, 42, 180, 0, 44, 42]
abbrev dktX6_item_11 : List UInt8 := dkwX6_item_11 ++ dktX6_item_12
def dkwX6_item_10 : List UInt8 := [167, 0, 76, 42, 42, 180, 0, 81, 3, 46, 42, 180, 0, 81, 4, 46, 182, 0, 152, 87, 167, 0, 56, 42]
abbrev dktX6_item_10 : List UInt8 := dkwX6_item_10 ++ dktX6_item_11
def dkwX6_item_9 : List UInt8 := [42, 42, 180, 0, 81, 3, 46, 42, 180, 0, 81, 4, 46, 42, 180, 0, 81, 5, 46, 182, 0, 148, 87]
abbrev dktX6_item_9 : List UInt8 := dkwX6_item_9 ++ dktX6_item_10
def dkwX6_item_8 : List UInt8 := [170, 0, 0, 0, 115, 0, 0, 0, 0, 0, 0, 0, 3, 0, 0, 0, 29, 0, 0, 0, 55, 0, 0, 0, 75, 0, 0, 0, 95]
abbrev dktX6_item_8 : List UInt8 := dkwX6_item_8 ++ dktX6_item_9
def dkwX6_item_7 : List UInt8 := [132, 2, 1, 167, 255, 150, 27]
abbrev dktX6_item_7 : List UInt8 := dkwX6_item_7 ++ dktX6_item_8
def dkwX6_item_6 : List UInt8 := [28, 182, 0, 204, 154, 0, 9, 42, 29, 182, 0, 192, 172, 42, 180, 0, 81, 28, 42, 180, 0, 185, 79]
abbrev dktX6_item_6 : List UInt8 := dkwX6_item_6 ++ dktX6_item_7
def dkwX6_item_5 : List UInt8 := [180, 0, 176, 4, 96, 181, 0, 176, 42, 180, 0, 176, 62, 42, 182, 0, 201, 154, 0, 5, 3, 172, 42, 27]
abbrev dktX6_item_5 : List UInt8 := dkwX6_item_5 ++ dktX6_item_6
def dkwX6_item_4 : List UInt8 := [180, 0, 176, 96, 47, 136, 16, 32, 159, 0, 12, 42, 42, 180, 0, 176, 182, 0, 192, 172, 42, 89]
abbrev dktX6_item_4 : List UInt8 := dkwX6_item_4 ++ dktX6_item_5
def dkwX6_item_3 : List UInt8 := [158, 0, 53, 42, 180, 0, 176, 42, 180, 0, 179, 162, 0, 23, 42, 180, 0, 68, 42, 180, 0, 182, 42]
abbrev dktX6_item_3 : List UInt8 := dkwX6_item_3 ++ dktX6_item_4
def dkwX6_item_2 : List UInt8 := [182, 0, 198, 60, 27, 2, 160, 0, 5, 3, 172, 3, 61, 28, 42, 180, 0, 78, 27, 46, 162, 0, 102, 28]
abbrev dktX6_item_2 : List UInt8 := dkwX6_item_2 ++ dktX6_item_3
def dkwX6_item_1 : List UInt8 := [153, 0, 21, 42, 180, 0, 120, 16, 8, 160, 0, 12, 42, 42, 180, 0, 176, 182, 0, 192, 172, 42]
abbrev dktX6_item_1 : List UInt8 := dkwX6_item_1 ++ dktX6_item_2
def dkwX6_item_0 : List UInt8 := [42, 3, 182, 0, 195, 153, 0, 12, 42, 180, 0, 117, 16, 8, 159, 0, 20, 42, 4, 182, 0, 195]
abbrev dktX6_item_0 : List UInt8 := dkwX6_item_0 ++ dktX6_item_1
theorem dksX6_item_0 : cX6_item.data.toList.drop 0 = dktX6_item_0 := by decide +kernel
theorem dksX6_item_1 : cX6_item.data.toList.drop 22 = dktX6_item_1 := dk_seg dksX6_item_0 22 rfl rfl
theorem dksX6_item_2 : cX6_item.data.toList.drop 44 = dktX6_item_2 := dk_seg dksX6_item_1 22 rfl rfl
theorem dksX6_item_3 : cX6_item.data.toList.drop 68 = dktX6_item_3 := dk_seg dksX6_item_2 24 rfl rfl
theorem dksX6_item_4 : cX6_item.data.toList.drop 91 = dktX6_item_4 := dk_seg dksX6_item_3 23 rfl rfl
theorem dksX6_item_5 : cX6_item.data.toList.drop 113 = dktX6_item_5 := dk_seg dksX6_item_4 22 rfl rfl
theorem dksX6_item_6 : cX6_item.data.toList.drop 137 = dktX6_item_6 := dk_seg dksX6_item_5 24 rfl rfl
theorem dksX6_item_7 : cX6_item.data.toList.drop 160 = dktX6_item_7 := dk_seg dksX6_item_6 23 rfl rfl
theorem dksX6_item_8 : cX6_item.data.toList.drop 167 = dktX6_item_8 := dk_seg dksX6_item_7 7 rfl rfl
theorem dksX6_item_9 : cX6_item.data.toList.drop 196 = dktX6_item_9 := dk_seg dksX6_item_8 29 rfl rfl
theorem dksX6_item_10 : cX6_item.data.toList.drop 219 = dktX6_item_10 := dk_seg dksX6_item_9 23 rfl rfl
theorem dksX6_item_11 : cX6_item.data.toList.drop 243 = dktX6_item_11 := dk_seg dksX6_item_10 24 rfl rfl
theorem dksX6_item_12 : cX6_item.data.toList.drop 267 = dktX6_item_12 := dk_seg dksX6_item_11 24 rfl rfl
theorem dksX6_item_13 : cX6_item.data.toList.drop 291 = dktX6_item_13 := dk_seg dksX6_item_12 24 rfl rfl
theorem dX6_item_0 : decode cX6_item 0 = .ok (.aload_n 0, 1) := dk_42 (dk_at dksX6_item_0 0 rfl rfl)
theorem dX6_item_1 : decode cX6_item 1 = .ok (.iconst 0, 1) := dk_3 (dk_at dksX6_item_0 1 rfl rfl)
theorem dX6_item_2 : decode cX6_item 2 = .ok (.invokevirtual 195, 3) := dk_182 0 195 (dk_at dksX6_item_0 2 rfl rfl)
theorem dX6_item_5 : decode cX6_item 5 = .ok (.ifCond .eq 12, 3) := dk_153 0 12 (dk_at dksX6_item_0 5 rfl rfl)
theorem dX6_item_8 : decode cX6_item 8 = .ok (.aload_n 0, 1) := dk_42 (dk_at dksX6_item_0 8 rfl rfl)
theorem dX6_item_9 : decode cX6_item 9 = .ok (.getfield 117, 3) := dk_180 0 117 (dk_at dksX6_item_0 9 rfl rfl)
theorem dX6_item_12 : decode cX6_item 12 = .ok (.bipush 8, 2) := dk_16 8 (dk_at dksX6_item_0 12 rfl rfl)
theorem dX6_item_14 : decode cX6_item 14 = .ok (.if_icmp .eq 20, 3) := dk_159 0 20 (dk_at dksX6_item_0 14 rfl rfl)
theorem dX6_item_17 : decode cX6_item 17 = .ok (.aload_n 0, 1) := dk_42 (dk_at dksX6_item_0 17 rfl rfl)
theorem dX6_item_18 : decode cX6_item 18 = .ok (.iconst 1, 1) := dk_4 (dk_at dksX6_item_0 18 rfl rfl)
theorem dX6_item_19 : decode cX6_item 19 = .ok (.invokevirtual 195, 3) := dk_182 0 195 (dk_at dksX6_item_0 19 rfl rfl)
theorem dX6_item_22 : decode cX6_item 22 = .ok (.ifCond .eq 21, 3) := dk_153 0 21 (dk_at dksX6_item_1 0 rfl rfl)
theorem dX6_item_25 : decode cX6_item 25 = .ok (.aload_n 0, 1) := dk_42 (dk_at dksX6_item_1 3 rfl rfl)
theorem dX6_item_26 : decode cX6_item 26 = .ok (.getfield 120, 3) := dk_180 0 120 (dk_at dksX6_item_1 4 rfl rfl)
theorem dX6_item_29 : decode cX6_item 29 = .ok (.bipush 8, 2) := dk_16 8 (dk_at dksX6_item_1 7 rfl rfl)
theorem dX6_item_31 : decode cX6_item 31 = .ok (.if_icmp .ne 12, 3) := dk_160 0 12 (dk_at dksX6_item_1 9 rfl rfl)
theorem dX6_item_34 : decode cX6_item 34 = .ok (.aload_n 0, 1) := dk_42 (dk_at dksX6_item_1 12 rfl rfl)
theorem dX6_item_35 : decode cX6_item 35 = .ok (.aload_n 0, 1) := dk_42 (dk_at dksX6_item_1 13 rfl rfl)
theorem dX6_item_36 : decode cX6_item 36 = .ok (.getfield 176, 3) := dk_180 0 176 (dk_at dksX6_item_1 14 rfl rfl)
theorem dX6_item_39 : decode cX6_item 39 = .ok (.invokevirtual 192, 3) := dk_182 0 192 (dk_at dksX6_item_1 17 rfl rfl)
theorem dX6_item_42 : decode cX6_item 42 = .ok (.ireturn, 1) := dk_172 (dk_at dksX6_item_1 20 rfl rfl)
theorem dX6_item_43 : decode cX6_item 43 = .ok (.aload_n 0, 1) := dk_42 (dk_at dksX6_item_1 21 rfl rfl)
theorem dX6_item_44 : decode cX6_item 44 = .ok (.invokevirtual 198, 3) := dk_182 0 198 (dk_at dksX6_item_2 0 rfl rfl)
theorem dX6_item_47 : decode cX6_item 47 = .ok (.istore_n 1, 1) := dk_60 (dk_at dksX6_item_2 3 rfl rfl)
theorem dX6_item_48 : decode cX6_item 48 = .ok (.iload_n 1, 1) := dk_27 (dk_at dksX6_item_2 4 rfl rfl)
theorem dX6_item_49 : decode cX6_item 49 = .ok (.iconst (-1), 1) := dk_2 (dk_at dksX6_item_2 5 rfl rfl)
theorem dX6_item_50 : decode cX6_item 50 = .ok (.if_icmp .ne 5, 3) := dk_160 0 5 (dk_at dksX6_item_2 6 rfl rfl)
theorem dX6_item_53 : decode cX6_item 53 = .ok (.iconst 0, 1) := dk_3 (dk_at dksX6_item_2 9 rfl rfl)
theorem dX6_item_54 : decode cX6_item 54 = .ok (.ireturn, 1) := dk_172 (dk_at dksX6_item_2 10 rfl rfl)
theorem dX6_item_55 : decode cX6_item 55 = .ok (.iconst 0, 1) := dk_3 (dk_at dksX6_item_2 11 rfl rfl)
theorem dX6_item_56 : decode cX6_item 56 = .ok (.istore_n 2, 1) := dk_61 (dk_at dksX6_item_2 12 rfl rfl)
theorem dX6_item_57 : decode cX6_item 57 = .ok (.iload_n 2, 1) := dk_28 (dk_at dksX6_item_2 13 rfl rfl)
theorem dX6_item_58 : decode cX6_item 58 = .ok (.aload_n 0, 1) := dk_42 (dk_at dksX6_item_2 14 rfl rfl)
theorem dX6_item_59 : decode cX6_item 59 = .ok (.getfield 78, 3) := dk_180 0 78 (dk_at dksX6_item_2 15 rfl rfl)
theorem dX6_item_62 : decode cX6_item 62 = .ok (.iload_n 1, 1) := dk_27 (dk_at dksX6_item_2 18 rfl rfl)
theorem dX6_item_63 : decode cX6_item 63 = .ok (.iaload, 1) := dk_46 (dk_at dksX6_item_2 19 rfl rfl)
theorem dX6_item_64 : decode cX6_item 64 = .ok (.if_icmp .ge 102, 3) := dk_162 0 102 (dk_at dksX6_item_2 20 rfl rfl)
theorem dX6_item_67 : decode cX6_item 67 = .ok (.iload_n 2, 1) := dk_28 (dk_at dksX6_item_2 23 rfl rfl)
theorem dX6_item_68 : decode cX6_item 68 = .ok (.ifCond .le 53, 3) := dk_158 0 53 (dk_at dksX6_item_3 0 rfl rfl)
theorem dX6_item_71 : decode cX6_item 71 = .ok (.aload_n 0, 1) := dk_42 (dk_at dksX6_item_3 3 rfl rfl)
theorem dX6_item_72 : decode cX6_item 72 = .ok (.getfield 176, 3) := dk_180 0 176 (dk_at dksX6_item_3 4 rfl rfl)
theorem dX6_item_75 : decode cX6_item 75 = .ok (.aload_n 0, 1) := dk_42 (dk_at dksX6_item_3 7 rfl rfl)
theorem dX6_item_76 : decode cX6_item 76 = .ok (.getfield 179, 3) := dk_180 0 179 (dk_at dksX6_item_3 8 rfl rfl)
theorem dX6_item_79 : decode cX6_item 79 = .ok (.if_icmp .ge 23, 3) := dk_162 0 23 (dk_at dksX6_item_3 11 rfl rfl)
theorem dX6_item_82 : decode cX6_item 82 = .ok (.aload_n 0, 1) := dk_42 (dk_at dksX6_item_3 14 rfl rfl)
theorem dX6_item_83 : decode cX6_item 83 = .ok (.getfield 68, 3) := dk_180 0 68 (dk_at dksX6_item_3 15 rfl rfl)
theorem dX6_item_86 : decode cX6_item 86 = .ok (.aload_n 0, 1) := dk_42 (dk_at dksX6_item_3 18 rfl rfl)
theorem dX6_item_87 : decode cX6_item 87 = .ok (.getfield 182, 3) := dk_180 0 182 (dk_at dksX6_item_3 19 rfl rfl)
theorem dX6_item_90 : decode cX6_item 90 = .ok (.aload_n 0, 1) := dk_42 (dk_at dksX6_item_3 22 rfl rfl)
theorem dX6_item_91 : decode cX6_item 91 = .ok (.getfield 176, 3) := dk_180 0 176 (dk_at dksX6_item_4 0 rfl rfl)
theorem dX6_item_94 : decode cX6_item 94 = .ok (.iadd, 1) := dk_96 (dk_at dksX6_item_4 3 rfl rfl)
theorem dX6_item_95 : decode cX6_item 95 = .ok (.laload, 1) := dk_47 (dk_at dksX6_item_4 4 rfl rfl)
theorem dX6_item_96 : decode cX6_item 96 = .ok (.l2i, 1) := dk_136 (dk_at dksX6_item_4 5 rfl rfl)
theorem dX6_item_97 : decode cX6_item 97 = .ok (.bipush 32, 2) := dk_16 32 (dk_at dksX6_item_4 6 rfl rfl)
theorem dX6_item_99 : decode cX6_item 99 = .ok (.if_icmp .eq 12, 3) := dk_159 0 12 (dk_at dksX6_item_4 8 rfl rfl)
theorem dX6_item_102 : decode cX6_item 102 = .ok (.aload_n 0, 1) := dk_42 (dk_at dksX6_item_4 11 rfl rfl)
theorem dX6_item_103 : decode cX6_item 103 = .ok (.aload_n 0, 1) := dk_42 (dk_at dksX6_item_4 12 rfl rfl)
theorem dX6_item_104 : decode cX6_item 104 = .ok (.getfield 176, 3) := dk_180 0 176 (dk_at dksX6_item_4 13 rfl rfl)
theorem dX6_item_107 : decode cX6_item 107 = .ok (.invokevirtual 192, 3) := dk_182 0 192 (dk_at dksX6_item_4 16 rfl rfl)
theorem dX6_item_110 : decode cX6_item 110 = .ok (.ireturn, 1) := dk_172 (dk_at dksX6_item_4 19 rfl rfl)
theorem dX6_item_111 : decode cX6_item 111 = .ok (.aload_n 0, 1) := dk_42 (dk_at dksX6_item_4 20 rfl rfl)
theorem dX6_item_112 : decode cX6_item 112 = .ok (.dup, 1) := dk_89 (dk_at dksX6_item_4 21 rfl rfl)
theorem dX6_item_113 : decode cX6_item 113 = .ok (.getfield 176, 3) := dk_180 0 176 (dk_at dksX6_item_5 0 rfl rfl)
theorem dX6_item_116 : decode cX6_item 116 = .ok (.iconst 1, 1) := dk_4 (dk_at dksX6_item_5 3 rfl rfl)
theorem dX6_item_117 : decode cX6_item 117 = .ok (.iadd, 1) := dk_96 (dk_at dksX6_item_5 4 rfl rfl)
theorem dX6_item_118 : decode cX6_item 118 = .ok (.putfield 176, 3) := dk_181 0 176 (dk_at dksX6_item_5 5 rfl rfl)
theorem dX6_item_121 : decode cX6_item 121 = .ok (.aload_n 0, 1) := dk_42 (dk_at dksX6_item_5 8 rfl rfl)
theorem dX6_item_122 : decode cX6_item 122 = .ok (.getfield 176, 3) := dk_180 0 176 (dk_at dksX6_item_5 9 rfl rfl)
theorem dX6_item_125 : decode cX6_item 125 = .ok (.istore_n 3, 1) := dk_62 (dk_at dksX6_item_5 12 rfl rfl)
theorem dX6_item_126 : decode cX6_item 126 = .ok (.aload_n 0, 1) := dk_42 (dk_at dksX6_item_5 13 rfl rfl)
theorem dX6_item_127 : decode cX6_item 127 = .ok (.invokevirtual 201, 3) := dk_182 0 201 (dk_at dksX6_item_5 14 rfl rfl)
theorem dX6_item_130 : decode cX6_item 130 = .ok (.ifCond .ne 5, 3) := dk_154 0 5 (dk_at dksX6_item_5 17 rfl rfl)
theorem dX6_item_133 : decode cX6_item 133 = .ok (.iconst 0, 1) := dk_3 (dk_at dksX6_item_5 20 rfl rfl)
theorem dX6_item_134 : decode cX6_item 134 = .ok (.ireturn, 1) := dk_172 (dk_at dksX6_item_5 21 rfl rfl)
theorem dX6_item_135 : decode cX6_item 135 = .ok (.aload_n 0, 1) := dk_42 (dk_at dksX6_item_5 22 rfl rfl)
theorem dX6_item_136 : decode cX6_item 136 = .ok (.iload_n 1, 1) := dk_27 (dk_at dksX6_item_5 23 rfl rfl)
theorem dX6_item_137 : decode cX6_item 137 = .ok (.iload_n 2, 1) := dk_28 (dk_at dksX6_item_6 0 rfl rfl)
theorem dX6_item_138 : decode cX6_item 138 = .ok (.invokevirtual 204, 3) := dk_182 0 204 (dk_at dksX6_item_6 1 rfl rfl)
theorem dX6_item_141 : decode cX6_item 141 = .ok (.ifCond .ne 9, 3) := dk_154 0 9 (dk_at dksX6_item_6 4 rfl rfl)
theorem dX6_item_144 : decode cX6_item 144 = .ok (.aload_n 0, 1) := dk_42 (dk_at dksX6_item_6 7 rfl rfl)
theorem dX6_item_145 : decode cX6_item 145 = .ok (.iload_n 3, 1) := dk_29 (dk_at dksX6_item_6 8 rfl rfl)
theorem dX6_item_146 : decode cX6_item 146 = .ok (.invokevirtual 192, 3) := dk_182 0 192 (dk_at dksX6_item_6 9 rfl rfl)
theorem dX6_item_149 : decode cX6_item 149 = .ok (.ireturn, 1) := dk_172 (dk_at dksX6_item_6 12 rfl rfl)
theorem dX6_item_150 : decode cX6_item 150 = .ok (.aload_n 0, 1) := dk_42 (dk_at dksX6_item_6 13 rfl rfl)
theorem dX6_item_151 : decode cX6_item 151 = .ok (.getfield 81, 3) := dk_180 0 81 (dk_at dksX6_item_6 14 rfl rfl)
theorem dX6_item_154 : decode cX6_item 154 = .ok (.iload_n 2, 1) := dk_28 (dk_at dksX6_item_6 17 rfl rfl)
theorem dX6_item_155 : decode cX6_item 155 = .ok (.aload_n 0, 1) := dk_42 (dk_at dksX6_item_6 18 rfl rfl)
theorem dX6_item_156 : decode cX6_item 156 = .ok (.getfield 185, 3) := dk_180 0 185 (dk_at dksX6_item_6 19 rfl rfl)
theorem dX6_item_159 : decode cX6_item 159 = .ok (.iastore, 1) := dk_79 (dk_at dksX6_item_6 22 rfl rfl)
theorem dX6_item_160 : decode cX6_item 160 = .ok (.iinc 2 1, 3) := dk_132 2 1 (dk_at dksX6_item_7 0 rfl rfl)
theorem dX6_item_163 : decode cX6_item 163 = .ok (.goto (-106), 3) := dk_167 255 150 (dk_at dksX6_item_7 3 rfl rfl)
theorem dX6_item_166 : decode cX6_item 166 = .ok (.iload_n 1, 1) := dk_27 (dk_at dksX6_item_7 6 rfl rfl)
theorem dX6_item_167 : decode cX6_item 167 = .ok (.tableswitch 115 0 3 #[29, 55, 75, 95], 29) := by decide +kernel
theorem dX6_item_196 : decode cX6_item 196 = .ok (.aload_n 0, 1) := dk_42 (dk_at dksX6_item_9 0 rfl rfl)
theorem dX6_item_197 : decode cX6_item 197 = .ok (.aload_n 0, 1) := dk_42 (dk_at dksX6_item_9 1 rfl rfl)
theorem dX6_item_198 : decode cX6_item 198 = .ok (.getfield 81, 3) := dk_180 0 81 (dk_at dksX6_item_9 2 rfl rfl)
theorem dX6_item_201 : decode cX6_item 201 = .ok (.iconst 0, 1) := dk_3 (dk_at dksX6_item_9 5 rfl rfl)
theorem dX6_item_202 : decode cX6_item 202 = .ok (.iaload, 1) := dk_46 (dk_at dksX6_item_9 6 rfl rfl)
theorem dX6_item_203 : decode cX6_item 203 = .ok (.aload_n 0, 1) := dk_42 (dk_at dksX6_item_9 7 rfl rfl)
theorem dX6_item_204 : decode cX6_item 204 = .ok (.getfield 81, 3) := dk_180 0 81 (dk_at dksX6_item_9 8 rfl rfl)
theorem dX6_item_207 : decode cX6_item 207 = .ok (.iconst 1, 1) := dk_4 (dk_at dksX6_item_9 11 rfl rfl)
theorem dX6_item_208 : decode cX6_item 208 = .ok (.iaload, 1) := dk_46 (dk_at dksX6_item_9 12 rfl rfl)
theorem dX6_item_209 : decode cX6_item 209 = .ok (.aload_n 0, 1) := dk_42 (dk_at dksX6_item_9 13 rfl rfl)
theorem dX6_item_210 : decode cX6_item 210 = .ok (.getfield 81, 3) := dk_180 0 81 (dk_at dksX6_item_9 14 rfl rfl)
theorem dX6_item_213 : decode cX6_item 213 = .ok (.iconst 2, 1) := dk_5 (dk_at dksX6_item_9 17 rfl rfl)
theorem dX6_item_214 : decode cX6_item 214 = .ok (.iaload, 1) := dk_46 (dk_at dksX6_item_9 18 rfl rfl)
theorem dX6_item_215 : decode cX6_item 215 = .ok (.invokevirtual 148, 3) := dk_182 0 148 (dk_at dksX6_item_9 19 rfl rfl)
theorem dX6_item_218 : decode cX6_item 218 = .ok (.pop, 1) := dk_87 (dk_at dksX6_item_9 22 rfl rfl)
theorem dX6_item_219 : decode cX6_item 219 = .ok (.goto 76, 3) := dk_167 0 76 (dk_at dksX6_item_10 0 rfl rfl)
theorem dX6_item_222 : decode cX6_item 222 = .ok (.aload_n 0, 1) := dk_42 (dk_at dksX6_item_10 3 rfl rfl)
theorem dX6_item_223 : decode cX6_item 223 = .ok (.aload_n 0, 1) := dk_42 (dk_at dksX6_item_10 4 rfl rfl)
theorem dX6_item_224 : decode cX6_item 224 = .ok (.getfield 81, 3) := dk_180 0 81 (dk_at dksX6_item_10 5 rfl rfl)
theorem dX6_item_227 : decode cX6_item 227 = .ok (.iconst 0, 1) := dk_3 (dk_at dksX6_item_10 8 rfl rfl)
theorem dX6_item_228 : decode cX6_item 228 = .ok (.iaload, 1) := dk_46 (dk_at dksX6_item_10 9 rfl rfl)
theorem dX6_item_229 : decode cX6_item 229 = .ok (.aload_n 0, 1) := dk_42 (dk_at dksX6_item_10 10 rfl rfl)
theorem dX6_item_230 : decode cX6_item 230 = .ok (.getfield 81, 3) := dk_180 0 81 (dk_at dksX6_item_10 11 rfl rfl)
theorem dX6_item_233 : decode cX6_item 233 = .ok (.iconst 1, 1) := dk_4 (dk_at dksX6_item_10 14 rfl rfl)
theorem dX6_item_234 : decode cX6_item 234 = .ok (.iaload, 1) := dk_46 (dk_at dksX6_item_10 15 rfl rfl)
theorem dX6_item_235 : decode cX6_item 235 = .ok (.invokevirtual 152, 3) := dk_182 0 152 (dk_at dksX6_item_10 16 rfl rfl)
theorem dX6_item_238 : decode cX6_item 238 = .ok (.pop, 1) := dk_87 (dk_at dksX6_item_10 19 rfl rfl)
theorem dX6_item_239 : decode cX6_item 239 = .ok (.goto 56, 3) := dk_167 0 56 (dk_at dksX6_item_10 20 rfl rfl)
theorem dX6_item_242 : decode cX6_item 242 = .ok (.aload_n 0, 1) := dk_42 (dk_at dksX6_item_10 23 rfl rfl)
theorem dX6_item_243 : decode cX6_item 243 = .ok (.getfield 41, 3) := dk_180 0 41 (dk_at dksX6_item_11 0 rfl rfl)
theorem dX6_item_246 : decode cX6_item 246 = .ok (.aload_n 0, 1) := dk_42 (dk_at dksX6_item_11 3 rfl rfl)
theorem dX6_item_247 : decode cX6_item 247 = .ok (.getfield 81, 3) := dk_180 0 81 (dk_at dksX6_item_11 4 rfl rfl)
theorem dX6_item_250 : decode cX6_item 250 = .ok (.iconst 0, 1) := dk_3 (dk_at dksX6_item_11 7 rfl rfl)
theorem dX6_item_251 : decode cX6_item 251 = .ok (.iaload, 1) := dk_46 (dk_at dksX6_item_11 8 rfl rfl)
theorem dX6_item_252 : decode cX6_item 252 = .ok (.aload_n 0, 1) := dk_42 (dk_at dksX6_item_11 9 rfl rfl)
theorem dX6_item_253 : decode cX6_item 253 = .ok (.getfield 81, 3) := dk_180 0 81 (dk_at dksX6_item_11 10 rfl rfl)
theorem dX6_item_256 : decode cX6_item 256 = .ok (.iconst 1, 1) := dk_4 (dk_at dksX6_item_11 13 rfl rfl)
theorem dX6_item_257 : decode cX6_item 257 = .ok (.iaload, 1) := dk_46 (dk_at dksX6_item_11 14 rfl rfl)
theorem dX6_item_258 : decode cX6_item 258 = .ok (.iastore, 1) := dk_79 (dk_at dksX6_item_11 15 rfl rfl)
theorem dX6_item_259 : decode cX6_item 259 = .ok (.goto 36, 3) := dk_167 0 36 (dk_at dksX6_item_11 16 rfl rfl)
theorem dX6_item_262 : decode cX6_item 262 = .ok (.aload_n 0, 1) := dk_42 (dk_at dksX6_item_11 19 rfl rfl)
theorem dX6_item_263 : decode cX6_item 263 = .ok (.getfield 44, 3) := dk_180 0 44 (dk_at dksX6_item_11 20 rfl rfl)
theorem dX6_item_266 : decode cX6_item 266 = .ok (.aload_n 0, 1) := dk_42 (dk_at dksX6_item_11 23 rfl rfl)
theorem dX6_item_267 : decode cX6_item 267 = .ok (.getfield 81, 3) := dk_180 0 81 (dk_at dksX6_item_12 0 rfl rfl)
theorem dX6_item_270 : decode cX6_item 270 = .ok (.iconst 0, 1) := dk_3 (dk_at dksX6_item_12 3 rfl rfl)
theorem dX6_item_271 : decode cX6_item 271 = .ok (.iaload, 1) := dk_46 (dk_at dksX6_item_12 4 rfl rfl)
theorem dX6_item_272 : decode cX6_item 272 = .ok (.aload_n 0, 1) := dk_42 (dk_at dksX6_item_12 5 rfl rfl)
theorem dX6_item_273 : decode cX6_item 273 = .ok (.getfield 81, 3) := dk_180 0 81 (dk_at dksX6_item_12 6 rfl rfl)
theorem dX6_item_276 : decode cX6_item 276 = .ok (.iconst 1, 1) := dk_4 (dk_at dksX6_item_12 9 rfl rfl)
theorem dX6_item_277 : decode cX6_item 277 = .ok (.iaload, 1) := dk_46 (dk_at dksX6_item_12 10 rfl rfl)
theorem dX6_item_278 : decode cX6_item 278 = .ok (.iastore, 1) := dk_79 (dk_at dksX6_item_12 11 rfl rfl)
theorem dX6_item_279 : decode cX6_item 279 = .ok (.goto 16, 3) := dk_167 0 16 (dk_at dksX6_item_12 12 rfl rfl)
theorem dX6_item_282 : decode cX6_item 282 = .ok (.aload_n 0, 1) := dk_42 (dk_at dksX6_item_12 15 rfl rfl)
theorem dX6_item_283 : decode cX6_item 283 = .ok (.iload_n 1, 1) := dk_27 (dk_at dksX6_item_12 16 rfl rfl)
theorem dX6_item_284 : decode cX6_item 284 = .ok (.iconst 4, 1) := dk_7 (dk_at dksX6_item_12 17 rfl rfl)
theorem dX6_item_285 : decode cX6_item 285 = .ok (.isub, 1) := dk_100 (dk_at dksX6_item_12 18 rfl rfl)
theorem dX6_item_286 : decode cX6_item 286 = .ok (.aload_n 0, 1) := dk_42 (dk_at dksX6_item_12 19 rfl rfl)
theorem dX6_item_287 : decode cX6_item 287 = .ok (.getfield 81, 3) := dk_180 0 81 (dk_at dksX6_item_12 20 rfl rfl)
theorem dX6_item_290 : decode cX6_item 290 = .ok (.iconst 0, 1) := dk_3 (dk_at dksX6_item_12 23 rfl rfl)
theorem dX6_item_291 : decode cX6_item 291 = .ok (.iaload, 1) := dk_46 (dk_at dksX6_item_13 0 rfl rfl)
theorem dX6_item_292 : decode cX6_item 292 = .ok (.invokevirtual 166, 3) := dk_182 0 166 (dk_at dksX6_item_13 1 rfl rfl)
theorem dX6_item_295 : decode cX6_item 295 = .ok (.iconst 1, 1) := dk_4 (dk_at dksX6_item_13 4 rfl rfl)
theorem dX6_item_296 : decode cX6_item 296 = .ok (.ireturn, 1) := dk_172 (dk_at dksX6_item_13 5 rfl rfl)
abbrev cX6_stands : ByteArray := prog_23_method_31_code
def yX6_stands : MethodName := ⟨RX6, "stands", "(I)Z"⟩
def dkwX6_stands_4 : List UInt8 := [163, 0, 7, 4, 167, 0, 4, 3, 172]
abbrev dktX6_stands_4 : List UInt8 := dkwX6_stands_4 ++ []
def dkwX6_stands_3 : List UInt8 := [28, 46, 160, 0, 12, 132, 3, 1, 132, 2, 1, 167, 255, 210, 42, 180, 0, 75, 28, 46, 16, 32]
abbrev dktX6_stands_3 : List UInt8 := dkwX6_stands_3 ++ dktX6_stands_4
def dkwX6_stands_2 : List UInt8 := [29, 42, 180, 0, 179, 162, 0, 33, 42, 180, 0, 68, 42, 180, 0, 182, 29, 96, 47, 136, 42, 180, 0, 75]
abbrev dktX6_stands_2 : List UInt8 := dkwX6_stands_2 ++ dktX6_stands_3
def dkwX6_stands_1 : List UInt8 := [96, 62, 132, 2, 1, 167, 255, 231, 42, 180, 0, 176, 62, 42, 180, 0, 75, 28, 46, 16, 32, 164, 0, 41]
abbrev dktX6_stands_1 : List UInt8 := dkwX6_stands_1 ++ dktX6_stands_2
def dkwX6_stands_0 : List UInt8 := [3, 61, 3, 62, 29, 27, 162, 0, 26, 29, 42, 180, 0, 75, 28, 46, 154, 0, 7, 4, 167, 0, 4, 3]
abbrev dktX6_stands_0 : List UInt8 := dkwX6_stands_0 ++ dktX6_stands_1
theorem dksX6_stands_0 : cX6_stands.data.toList.drop 0 = dktX6_stands_0 := by decide +kernel
theorem dksX6_stands_1 : cX6_stands.data.toList.drop 24 = dktX6_stands_1 := dk_seg dksX6_stands_0 24 rfl rfl
theorem dksX6_stands_2 : cX6_stands.data.toList.drop 48 = dktX6_stands_2 := dk_seg dksX6_stands_1 24 rfl rfl
theorem dksX6_stands_3 : cX6_stands.data.toList.drop 72 = dktX6_stands_3 := dk_seg dksX6_stands_2 24 rfl rfl
theorem dksX6_stands_4 : cX6_stands.data.toList.drop 94 = dktX6_stands_4 := dk_seg dksX6_stands_3 22 rfl rfl
theorem dX6_stands_0 : decode cX6_stands 0 = .ok (.iconst 0, 1) := dk_3 (dk_at dksX6_stands_0 0 rfl rfl)
theorem dX6_stands_1 : decode cX6_stands 1 = .ok (.istore_n 2, 1) := dk_61 (dk_at dksX6_stands_0 1 rfl rfl)
theorem dX6_stands_2 : decode cX6_stands 2 = .ok (.iconst 0, 1) := dk_3 (dk_at dksX6_stands_0 2 rfl rfl)
theorem dX6_stands_3 : decode cX6_stands 3 = .ok (.istore_n 3, 1) := dk_62 (dk_at dksX6_stands_0 3 rfl rfl)
theorem dX6_stands_4 : decode cX6_stands 4 = .ok (.iload_n 3, 1) := dk_29 (dk_at dksX6_stands_0 4 rfl rfl)
theorem dX6_stands_5 : decode cX6_stands 5 = .ok (.iload_n 1, 1) := dk_27 (dk_at dksX6_stands_0 5 rfl rfl)
theorem dX6_stands_6 : decode cX6_stands 6 = .ok (.if_icmp .ge 26, 3) := dk_162 0 26 (dk_at dksX6_stands_0 6 rfl rfl)
theorem dX6_stands_9 : decode cX6_stands 9 = .ok (.iload_n 3, 1) := dk_29 (dk_at dksX6_stands_0 9 rfl rfl)
theorem dX6_stands_10 : decode cX6_stands 10 = .ok (.aload_n 0, 1) := dk_42 (dk_at dksX6_stands_0 10 rfl rfl)
theorem dX6_stands_11 : decode cX6_stands 11 = .ok (.getfield 75, 3) := dk_180 0 75 (dk_at dksX6_stands_0 11 rfl rfl)
theorem dX6_stands_14 : decode cX6_stands 14 = .ok (.iload_n 2, 1) := dk_28 (dk_at dksX6_stands_0 14 rfl rfl)
theorem dX6_stands_15 : decode cX6_stands 15 = .ok (.iaload, 1) := dk_46 (dk_at dksX6_stands_0 15 rfl rfl)
theorem dX6_stands_16 : decode cX6_stands 16 = .ok (.ifCond .ne 7, 3) := dk_154 0 7 (dk_at dksX6_stands_0 16 rfl rfl)
theorem dX6_stands_19 : decode cX6_stands 19 = .ok (.iconst 1, 1) := dk_4 (dk_at dksX6_stands_0 19 rfl rfl)
theorem dX6_stands_20 : decode cX6_stands 20 = .ok (.goto 4, 3) := dk_167 0 4 (dk_at dksX6_stands_0 20 rfl rfl)
theorem dX6_stands_23 : decode cX6_stands 23 = .ok (.iconst 0, 1) := dk_3 (dk_at dksX6_stands_0 23 rfl rfl)
theorem dX6_stands_24 : decode cX6_stands 24 = .ok (.iadd, 1) := dk_96 (dk_at dksX6_stands_1 0 rfl rfl)
theorem dX6_stands_25 : decode cX6_stands 25 = .ok (.istore_n 3, 1) := dk_62 (dk_at dksX6_stands_1 1 rfl rfl)
theorem dX6_stands_26 : decode cX6_stands 26 = .ok (.iinc 2 1, 3) := dk_132 2 1 (dk_at dksX6_stands_1 2 rfl rfl)
theorem dX6_stands_29 : decode cX6_stands 29 = .ok (.goto (-25), 3) := dk_167 255 231 (dk_at dksX6_stands_1 5 rfl rfl)
theorem dX6_stands_32 : decode cX6_stands 32 = .ok (.aload_n 0, 1) := dk_42 (dk_at dksX6_stands_1 8 rfl rfl)
theorem dX6_stands_33 : decode cX6_stands 33 = .ok (.getfield 176, 3) := dk_180 0 176 (dk_at dksX6_stands_1 9 rfl rfl)
theorem dX6_stands_36 : decode cX6_stands 36 = .ok (.istore_n 3, 1) := dk_62 (dk_at dksX6_stands_1 12 rfl rfl)
theorem dX6_stands_37 : decode cX6_stands 37 = .ok (.aload_n 0, 1) := dk_42 (dk_at dksX6_stands_1 13 rfl rfl)
theorem dX6_stands_38 : decode cX6_stands 38 = .ok (.getfield 75, 3) := dk_180 0 75 (dk_at dksX6_stands_1 14 rfl rfl)
theorem dX6_stands_41 : decode cX6_stands 41 = .ok (.iload_n 2, 1) := dk_28 (dk_at dksX6_stands_1 17 rfl rfl)
theorem dX6_stands_42 : decode cX6_stands 42 = .ok (.iaload, 1) := dk_46 (dk_at dksX6_stands_1 18 rfl rfl)
theorem dX6_stands_43 : decode cX6_stands 43 = .ok (.bipush 32, 2) := dk_16 32 (dk_at dksX6_stands_1 19 rfl rfl)
theorem dX6_stands_45 : decode cX6_stands 45 = .ok (.if_icmp .le 41, 3) := dk_164 0 41 (dk_at dksX6_stands_1 21 rfl rfl)
theorem dX6_stands_48 : decode cX6_stands 48 = .ok (.iload_n 3, 1) := dk_29 (dk_at dksX6_stands_2 0 rfl rfl)
theorem dX6_stands_49 : decode cX6_stands 49 = .ok (.aload_n 0, 1) := dk_42 (dk_at dksX6_stands_2 1 rfl rfl)
theorem dX6_stands_50 : decode cX6_stands 50 = .ok (.getfield 179, 3) := dk_180 0 179 (dk_at dksX6_stands_2 2 rfl rfl)
theorem dX6_stands_53 : decode cX6_stands 53 = .ok (.if_icmp .ge 33, 3) := dk_162 0 33 (dk_at dksX6_stands_2 5 rfl rfl)
theorem dX6_stands_56 : decode cX6_stands 56 = .ok (.aload_n 0, 1) := dk_42 (dk_at dksX6_stands_2 8 rfl rfl)
theorem dX6_stands_57 : decode cX6_stands 57 = .ok (.getfield 68, 3) := dk_180 0 68 (dk_at dksX6_stands_2 9 rfl rfl)
theorem dX6_stands_60 : decode cX6_stands 60 = .ok (.aload_n 0, 1) := dk_42 (dk_at dksX6_stands_2 12 rfl rfl)
theorem dX6_stands_61 : decode cX6_stands 61 = .ok (.getfield 182, 3) := dk_180 0 182 (dk_at dksX6_stands_2 13 rfl rfl)
theorem dX6_stands_64 : decode cX6_stands 64 = .ok (.iload_n 3, 1) := dk_29 (dk_at dksX6_stands_2 16 rfl rfl)
theorem dX6_stands_65 : decode cX6_stands 65 = .ok (.iadd, 1) := dk_96 (dk_at dksX6_stands_2 17 rfl rfl)
theorem dX6_stands_66 : decode cX6_stands 66 = .ok (.laload, 1) := dk_47 (dk_at dksX6_stands_2 18 rfl rfl)
theorem dX6_stands_67 : decode cX6_stands 67 = .ok (.l2i, 1) := dk_136 (dk_at dksX6_stands_2 19 rfl rfl)
theorem dX6_stands_68 : decode cX6_stands 68 = .ok (.aload_n 0, 1) := dk_42 (dk_at dksX6_stands_2 20 rfl rfl)
theorem dX6_stands_69 : decode cX6_stands 69 = .ok (.getfield 75, 3) := dk_180 0 75 (dk_at dksX6_stands_2 21 rfl rfl)
theorem dX6_stands_72 : decode cX6_stands 72 = .ok (.iload_n 2, 1) := dk_28 (dk_at dksX6_stands_3 0 rfl rfl)
theorem dX6_stands_73 : decode cX6_stands 73 = .ok (.iaload, 1) := dk_46 (dk_at dksX6_stands_3 1 rfl rfl)
theorem dX6_stands_74 : decode cX6_stands 74 = .ok (.if_icmp .ne 12, 3) := dk_160 0 12 (dk_at dksX6_stands_3 2 rfl rfl)
theorem dX6_stands_77 : decode cX6_stands 77 = .ok (.iinc 3 1, 3) := dk_132 3 1 (dk_at dksX6_stands_3 5 rfl rfl)
theorem dX6_stands_80 : decode cX6_stands 80 = .ok (.iinc 2 1, 3) := dk_132 2 1 (dk_at dksX6_stands_3 8 rfl rfl)
theorem dX6_stands_83 : decode cX6_stands 83 = .ok (.goto (-46), 3) := dk_167 255 210 (dk_at dksX6_stands_3 11 rfl rfl)
theorem dX6_stands_86 : decode cX6_stands 86 = .ok (.aload_n 0, 1) := dk_42 (dk_at dksX6_stands_3 14 rfl rfl)
theorem dX6_stands_87 : decode cX6_stands 87 = .ok (.getfield 75, 3) := dk_180 0 75 (dk_at dksX6_stands_3 15 rfl rfl)
theorem dX6_stands_90 : decode cX6_stands 90 = .ok (.iload_n 2, 1) := dk_28 (dk_at dksX6_stands_3 18 rfl rfl)
theorem dX6_stands_91 : decode cX6_stands 91 = .ok (.iaload, 1) := dk_46 (dk_at dksX6_stands_3 19 rfl rfl)
theorem dX6_stands_92 : decode cX6_stands 92 = .ok (.bipush 32, 2) := dk_16 32 (dk_at dksX6_stands_3 20 rfl rfl)
theorem dX6_stands_94 : decode cX6_stands 94 = .ok (.if_icmp .gt 7, 3) := dk_163 0 7 (dk_at dksX6_stands_4 0 rfl rfl)
theorem dX6_stands_97 : decode cX6_stands 97 = .ok (.iconst 1, 1) := dk_4 (dk_at dksX6_stands_4 3 rfl rfl)
theorem dX6_stands_98 : decode cX6_stands 98 = .ok (.goto 4, 3) := dk_167 0 4 (dk_at dksX6_stands_4 4 rfl rfl)
theorem dX6_stands_101 : decode cX6_stands 101 = .ok (.iconst 0, 1) := dk_3 (dk_at dksX6_stands_4 7 rfl rfl)
theorem dX6_stands_102 : decode cX6_stands 102 = .ok (.ireturn, 1) := dk_172 (dk_at dksX6_stands_4 8 rfl rfl)
abbrev cX6_wrong : ByteArray := prog_23_method_30_code
def yX6_wrong : MethodName := ⟨RX6, "wrong", "(I)Z"⟩
def dkwX6_wrong_0 : List UInt8 := [42, 27, 181, 0, 173, 3, 172]
abbrev dktX6_wrong_0 : List UInt8 := dkwX6_wrong_0 ++ []
theorem dksX6_wrong_0 : cX6_wrong.data.toList.drop 0 = dktX6_wrong_0 := by decide +kernel
theorem dX6_wrong_0 : decode cX6_wrong 0 = .ok (.aload_n 0, 1) := dk_42 (dk_at dksX6_wrong_0 0 rfl rfl)
theorem dX6_wrong_1 : decode cX6_wrong 1 = .ok (.iload_n 1, 1) := dk_27 (dk_at dksX6_wrong_0 1 rfl rfl)
theorem dX6_wrong_2 : decode cX6_wrong 2 = .ok (.putfield 173, 3) := dk_181 0 173 (dk_at dksX6_wrong_0 2 rfl rfl)
theorem dX6_wrong_5 : decode cX6_wrong 5 = .ok (.iconst 0, 1) := dk_3 (dk_at dksX6_wrong_0 5 rfl rfl)
theorem dX6_wrong_6 : decode cX6_wrong 6 = .ok (.ireturn, 1) := dk_172 (dk_at dksX6_wrong_0 6 rfl rfl)
abbrev cX6_word : ByteArray := prog_23_method_32_code
def yX6_word : MethodName := ⟨RX6, "word", "()I"⟩
def dkwX6_word_5 : List UInt8 := [167, 255, 244, 132, 1, 1, 132, 3, 1, 167, 255, 138, 42, 28, 181, 0, 173, 2, 172]
abbrev dktX6_word_5 : List UInt8 := dkwX6_word_5 ++ []
def dkwX6_word_4 : List UInt8 := [164, 0, 8, 21, 4, 167, 0, 4, 28, 61, 42, 180, 0, 75, 27, 46, 153, 0, 9, 132, 1, 1]
abbrev dktX6_word_4 : List UInt8 := dkwX6_word_4 ++ dktX6_word_5
def dkwX6_word_3 : List UInt8 := [167, 255, 208, 42, 180, 0, 75, 21, 5, 46, 154, 0, 11, 42, 21, 4, 181, 0, 176, 29, 172, 21, 4, 28]
abbrev dktX6_word_3 : List UInt8 := dkwX6_word_3 ++ dktX6_word_4
def dkwX6_word_2 : List UInt8 := [180, 0, 182, 21, 4, 96, 47, 136, 42, 180, 0, 75, 21, 5, 46, 160, 0, 12, 132, 4, 1, 132, 5, 1]
abbrev dktX6_word_2 : List UInt8 := dkwX6_word_2 ++ dktX6_word_3
def dkwX6_word_1 : List UInt8 := [42, 180, 0, 75, 21, 5, 46, 153, 0, 44, 21, 4, 42, 180, 0, 179, 162, 0, 35, 42, 180, 0, 68, 42]
abbrev dktX6_word_1 : List UInt8 := dkwX6_word_1 ++ dktX6_word_2
def dkwX6_word_0 : List UInt8 := [3, 60, 42, 180, 0, 176, 61, 3, 62, 29, 16, 8, 162, 0, 118, 42, 180, 0, 176, 54, 4, 27, 54, 5]
abbrev dktX6_word_0 : List UInt8 := dkwX6_word_0 ++ dktX6_word_1
theorem dksX6_word_0 : cX6_word.data.toList.drop 0 = dktX6_word_0 := by decide +kernel
theorem dksX6_word_1 : cX6_word.data.toList.drop 24 = dktX6_word_1 := dk_seg dksX6_word_0 24 rfl rfl
theorem dksX6_word_2 : cX6_word.data.toList.drop 48 = dktX6_word_2 := dk_seg dksX6_word_1 24 rfl rfl
theorem dksX6_word_3 : cX6_word.data.toList.drop 72 = dktX6_word_3 := dk_seg dksX6_word_2 24 rfl rfl
theorem dksX6_word_4 : cX6_word.data.toList.drop 96 = dktX6_word_4 := dk_seg dksX6_word_3 24 rfl rfl
theorem dksX6_word_5 : cX6_word.data.toList.drop 118 = dktX6_word_5 := dk_seg dksX6_word_4 22 rfl rfl
theorem dX6_word_0 : decode cX6_word 0 = .ok (.iconst 0, 1) := dk_3 (dk_at dksX6_word_0 0 rfl rfl)
theorem dX6_word_1 : decode cX6_word 1 = .ok (.istore_n 1, 1) := dk_60 (dk_at dksX6_word_0 1 rfl rfl)
theorem dX6_word_2 : decode cX6_word 2 = .ok (.aload_n 0, 1) := dk_42 (dk_at dksX6_word_0 2 rfl rfl)
theorem dX6_word_3 : decode cX6_word 3 = .ok (.getfield 176, 3) := dk_180 0 176 (dk_at dksX6_word_0 3 rfl rfl)
theorem dX6_word_6 : decode cX6_word 6 = .ok (.istore_n 2, 1) := dk_61 (dk_at dksX6_word_0 6 rfl rfl)
theorem dX6_word_7 : decode cX6_word 7 = .ok (.iconst 0, 1) := dk_3 (dk_at dksX6_word_0 7 rfl rfl)
theorem dX6_word_8 : decode cX6_word 8 = .ok (.istore_n 3, 1) := dk_62 (dk_at dksX6_word_0 8 rfl rfl)
theorem dX6_word_9 : decode cX6_word 9 = .ok (.iload_n 3, 1) := dk_29 (dk_at dksX6_word_0 9 rfl rfl)
theorem dX6_word_10 : decode cX6_word 10 = .ok (.bipush 8, 2) := dk_16 8 (dk_at dksX6_word_0 10 rfl rfl)
theorem dX6_word_12 : decode cX6_word 12 = .ok (.if_icmp .ge 118, 3) := dk_162 0 118 (dk_at dksX6_word_0 12 rfl rfl)
theorem dX6_word_15 : decode cX6_word 15 = .ok (.aload_n 0, 1) := dk_42 (dk_at dksX6_word_0 15 rfl rfl)
theorem dX6_word_16 : decode cX6_word 16 = .ok (.getfield 176, 3) := dk_180 0 176 (dk_at dksX6_word_0 16 rfl rfl)
theorem dX6_word_19 : decode cX6_word 19 = .ok (.istore 4, 2) := dk_54 4 (dk_at dksX6_word_0 19 rfl rfl)
theorem dX6_word_21 : decode cX6_word 21 = .ok (.iload_n 1, 1) := dk_27 (dk_at dksX6_word_0 21 rfl rfl)
theorem dX6_word_22 : decode cX6_word 22 = .ok (.istore 5, 2) := dk_54 5 (dk_at dksX6_word_0 22 rfl rfl)
theorem dX6_word_24 : decode cX6_word 24 = .ok (.aload_n 0, 1) := dk_42 (dk_at dksX6_word_1 0 rfl rfl)
theorem dX6_word_25 : decode cX6_word 25 = .ok (.getfield 75, 3) := dk_180 0 75 (dk_at dksX6_word_1 1 rfl rfl)
theorem dX6_word_28 : decode cX6_word 28 = .ok (.iload 5, 2) := dk_21 5 (dk_at dksX6_word_1 4 rfl rfl)
theorem dX6_word_30 : decode cX6_word 30 = .ok (.iaload, 1) := dk_46 (dk_at dksX6_word_1 6 rfl rfl)
theorem dX6_word_31 : decode cX6_word 31 = .ok (.ifCond .eq 44, 3) := dk_153 0 44 (dk_at dksX6_word_1 7 rfl rfl)
theorem dX6_word_34 : decode cX6_word 34 = .ok (.iload 4, 2) := dk_21 4 (dk_at dksX6_word_1 10 rfl rfl)
theorem dX6_word_36 : decode cX6_word 36 = .ok (.aload_n 0, 1) := dk_42 (dk_at dksX6_word_1 12 rfl rfl)
theorem dX6_word_37 : decode cX6_word 37 = .ok (.getfield 179, 3) := dk_180 0 179 (dk_at dksX6_word_1 13 rfl rfl)
theorem dX6_word_40 : decode cX6_word 40 = .ok (.if_icmp .ge 35, 3) := dk_162 0 35 (dk_at dksX6_word_1 16 rfl rfl)
theorem dX6_word_43 : decode cX6_word 43 = .ok (.aload_n 0, 1) := dk_42 (dk_at dksX6_word_1 19 rfl rfl)
theorem dX6_word_44 : decode cX6_word 44 = .ok (.getfield 68, 3) := dk_180 0 68 (dk_at dksX6_word_1 20 rfl rfl)
theorem dX6_word_47 : decode cX6_word 47 = .ok (.aload_n 0, 1) := dk_42 (dk_at dksX6_word_1 23 rfl rfl)
theorem dX6_word_48 : decode cX6_word 48 = .ok (.getfield 182, 3) := dk_180 0 182 (dk_at dksX6_word_2 0 rfl rfl)
theorem dX6_word_51 : decode cX6_word 51 = .ok (.iload 4, 2) := dk_21 4 (dk_at dksX6_word_2 3 rfl rfl)
theorem dX6_word_53 : decode cX6_word 53 = .ok (.iadd, 1) := dk_96 (dk_at dksX6_word_2 5 rfl rfl)
theorem dX6_word_54 : decode cX6_word 54 = .ok (.laload, 1) := dk_47 (dk_at dksX6_word_2 6 rfl rfl)
theorem dX6_word_55 : decode cX6_word 55 = .ok (.l2i, 1) := dk_136 (dk_at dksX6_word_2 7 rfl rfl)
theorem dX6_word_56 : decode cX6_word 56 = .ok (.aload_n 0, 1) := dk_42 (dk_at dksX6_word_2 8 rfl rfl)
theorem dX6_word_57 : decode cX6_word 57 = .ok (.getfield 75, 3) := dk_180 0 75 (dk_at dksX6_word_2 9 rfl rfl)
theorem dX6_word_60 : decode cX6_word 60 = .ok (.iload 5, 2) := dk_21 5 (dk_at dksX6_word_2 12 rfl rfl)
theorem dX6_word_62 : decode cX6_word 62 = .ok (.iaload, 1) := dk_46 (dk_at dksX6_word_2 14 rfl rfl)
theorem dX6_word_63 : decode cX6_word 63 = .ok (.if_icmp .ne 12, 3) := dk_160 0 12 (dk_at dksX6_word_2 15 rfl rfl)
theorem dX6_word_66 : decode cX6_word 66 = .ok (.iinc 4 1, 3) := dk_132 4 1 (dk_at dksX6_word_2 18 rfl rfl)
theorem dX6_word_69 : decode cX6_word 69 = .ok (.iinc 5 1, 3) := dk_132 5 1 (dk_at dksX6_word_2 21 rfl rfl)
theorem dX6_word_72 : decode cX6_word 72 = .ok (.goto (-48), 3) := dk_167 255 208 (dk_at dksX6_word_3 0 rfl rfl)
theorem dX6_word_75 : decode cX6_word 75 = .ok (.aload_n 0, 1) := dk_42 (dk_at dksX6_word_3 3 rfl rfl)
theorem dX6_word_76 : decode cX6_word 76 = .ok (.getfield 75, 3) := dk_180 0 75 (dk_at dksX6_word_3 4 rfl rfl)
theorem dX6_word_79 : decode cX6_word 79 = .ok (.iload 5, 2) := dk_21 5 (dk_at dksX6_word_3 7 rfl rfl)
theorem dX6_word_81 : decode cX6_word 81 = .ok (.iaload, 1) := dk_46 (dk_at dksX6_word_3 9 rfl rfl)
theorem dX6_word_82 : decode cX6_word 82 = .ok (.ifCond .ne 11, 3) := dk_154 0 11 (dk_at dksX6_word_3 10 rfl rfl)
theorem dX6_word_85 : decode cX6_word 85 = .ok (.aload_n 0, 1) := dk_42 (dk_at dksX6_word_3 13 rfl rfl)
theorem dX6_word_86 : decode cX6_word 86 = .ok (.iload 4, 2) := dk_21 4 (dk_at dksX6_word_3 14 rfl rfl)
theorem dX6_word_88 : decode cX6_word 88 = .ok (.putfield 176, 3) := dk_181 0 176 (dk_at dksX6_word_3 16 rfl rfl)
theorem dX6_word_91 : decode cX6_word 91 = .ok (.iload_n 3, 1) := dk_29 (dk_at dksX6_word_3 19 rfl rfl)
theorem dX6_word_92 : decode cX6_word 92 = .ok (.ireturn, 1) := dk_172 (dk_at dksX6_word_3 20 rfl rfl)
theorem dX6_word_93 : decode cX6_word 93 = .ok (.iload 4, 2) := dk_21 4 (dk_at dksX6_word_3 21 rfl rfl)
theorem dX6_word_95 : decode cX6_word 95 = .ok (.iload_n 2, 1) := dk_28 (dk_at dksX6_word_3 23 rfl rfl)
theorem dX6_word_96 : decode cX6_word 96 = .ok (.if_icmp .le 8, 3) := dk_164 0 8 (dk_at dksX6_word_4 0 rfl rfl)
theorem dX6_word_99 : decode cX6_word 99 = .ok (.iload 4, 2) := dk_21 4 (dk_at dksX6_word_4 3 rfl rfl)
theorem dX6_word_101 : decode cX6_word 101 = .ok (.goto 4, 3) := dk_167 0 4 (dk_at dksX6_word_4 5 rfl rfl)
theorem dX6_word_104 : decode cX6_word 104 = .ok (.iload_n 2, 1) := dk_28 (dk_at dksX6_word_4 8 rfl rfl)
theorem dX6_word_105 : decode cX6_word 105 = .ok (.istore_n 2, 1) := dk_61 (dk_at dksX6_word_4 9 rfl rfl)
theorem dX6_word_106 : decode cX6_word 106 = .ok (.aload_n 0, 1) := dk_42 (dk_at dksX6_word_4 10 rfl rfl)
theorem dX6_word_107 : decode cX6_word 107 = .ok (.getfield 75, 3) := dk_180 0 75 (dk_at dksX6_word_4 11 rfl rfl)
theorem dX6_word_110 : decode cX6_word 110 = .ok (.iload_n 1, 1) := dk_27 (dk_at dksX6_word_4 14 rfl rfl)
theorem dX6_word_111 : decode cX6_word 111 = .ok (.iaload, 1) := dk_46 (dk_at dksX6_word_4 15 rfl rfl)
theorem dX6_word_112 : decode cX6_word 112 = .ok (.ifCond .eq 9, 3) := dk_153 0 9 (dk_at dksX6_word_4 16 rfl rfl)
theorem dX6_word_115 : decode cX6_word 115 = .ok (.iinc 1 1, 3) := dk_132 1 1 (dk_at dksX6_word_4 19 rfl rfl)
theorem dX6_word_118 : decode cX6_word 118 = .ok (.goto (-12), 3) := dk_167 255 244 (dk_at dksX6_word_5 0 rfl rfl)
theorem dX6_word_121 : decode cX6_word 121 = .ok (.iinc 1 1, 3) := dk_132 1 1 (dk_at dksX6_word_5 3 rfl rfl)
theorem dX6_word_124 : decode cX6_word 124 = .ok (.iinc 3 1, 3) := dk_132 3 1 (dk_at dksX6_word_5 6 rfl rfl)
theorem dX6_word_127 : decode cX6_word 127 = .ok (.goto (-118), 3) := dk_167 255 138 (dk_at dksX6_word_5 9 rfl rfl)
theorem dX6_word_130 : decode cX6_word 130 = .ok (.aload_n 0, 1) := dk_42 (dk_at dksX6_word_5 12 rfl rfl)
theorem dX6_word_131 : decode cX6_word 131 = .ok (.iload_n 2, 1) := dk_28 (dk_at dksX6_word_5 13 rfl rfl)
theorem dX6_word_132 : decode cX6_word 132 = .ok (.putfield 173, 3) := dk_181 0 173 (dk_at dksX6_word_5 14 rfl rfl)
theorem dX6_word_135 : decode cX6_word 135 = .ok (.iconst (-1), 1) := dk_2 (dk_at dksX6_word_5 17 rfl rfl)
theorem dX6_word_136 : decode cX6_word 136 = .ok (.ireturn, 1) := dk_172 (dk_at dksX6_word_5 18 rfl rfl)
abbrev cX6_reads : ByteArray := prog_23_method_34_code
def yX6_reads : MethodName := ⟨RX6, "reads", "()Z"⟩
def dkwX6_reads_3 : List UInt8 := [181, 0, 176, 132, 1, 1, 167, 255, 201, 4, 172]
abbrev dktX6_reads_3 : List UInt8 := dkwX6_reads_3 ++ []
def dkwX6_reads_2 : List UInt8 := [180, 0, 182, 42, 180, 0, 176, 96, 47, 136, 96, 16, 48, 100, 181, 0, 185, 42, 89, 180, 0, 176, 4, 96]
abbrev dktX6_reads_2 : List UInt8 := dkwX6_reads_2 ++ dktX6_reads_3
def dkwX6_reads_1 : List UInt8 := [6, 162, 0, 56, 42, 182, 0, 188, 153, 0, 49, 42, 16, 10, 42, 180, 0, 185, 104, 42, 180, 0, 68, 42]
abbrev dktX6_reads_1 : List UInt8 := dkwX6_reads_1 ++ dktX6_reads_2
def dkwX6_reads_0 : List UInt8 := [42, 3, 181, 0, 185, 42, 182, 0, 188, 154, 0, 12, 42, 42, 180, 0, 176, 182, 0, 192, 172, 3, 60, 27]
abbrev dktX6_reads_0 : List UInt8 := dkwX6_reads_0 ++ dktX6_reads_1
theorem dksX6_reads_0 : cX6_reads.data.toList.drop 0 = dktX6_reads_0 := by decide +kernel
theorem dksX6_reads_1 : cX6_reads.data.toList.drop 24 = dktX6_reads_1 := dk_seg dksX6_reads_0 24 rfl rfl
theorem dksX6_reads_2 : cX6_reads.data.toList.drop 48 = dktX6_reads_2 := dk_seg dksX6_reads_1 24 rfl rfl
theorem dksX6_reads_3 : cX6_reads.data.toList.drop 72 = dktX6_reads_3 := dk_seg dksX6_reads_2 24 rfl rfl
theorem dX6_reads_0 : decode cX6_reads 0 = .ok (.aload_n 0, 1) := dk_42 (dk_at dksX6_reads_0 0 rfl rfl)
theorem dX6_reads_1 : decode cX6_reads 1 = .ok (.iconst 0, 1) := dk_3 (dk_at dksX6_reads_0 1 rfl rfl)
theorem dX6_reads_2 : decode cX6_reads 2 = .ok (.putfield 185, 3) := dk_181 0 185 (dk_at dksX6_reads_0 2 rfl rfl)
theorem dX6_reads_5 : decode cX6_reads 5 = .ok (.aload_n 0, 1) := dk_42 (dk_at dksX6_reads_0 5 rfl rfl)
theorem dX6_reads_6 : decode cX6_reads 6 = .ok (.invokevirtual 188, 3) := dk_182 0 188 (dk_at dksX6_reads_0 6 rfl rfl)
theorem dX6_reads_9 : decode cX6_reads 9 = .ok (.ifCond .ne 12, 3) := dk_154 0 12 (dk_at dksX6_reads_0 9 rfl rfl)
theorem dX6_reads_12 : decode cX6_reads 12 = .ok (.aload_n 0, 1) := dk_42 (dk_at dksX6_reads_0 12 rfl rfl)
theorem dX6_reads_13 : decode cX6_reads 13 = .ok (.aload_n 0, 1) := dk_42 (dk_at dksX6_reads_0 13 rfl rfl)
theorem dX6_reads_14 : decode cX6_reads 14 = .ok (.getfield 176, 3) := dk_180 0 176 (dk_at dksX6_reads_0 14 rfl rfl)
theorem dX6_reads_17 : decode cX6_reads 17 = .ok (.invokevirtual 192, 3) := dk_182 0 192 (dk_at dksX6_reads_0 17 rfl rfl)
theorem dX6_reads_20 : decode cX6_reads 20 = .ok (.ireturn, 1) := dk_172 (dk_at dksX6_reads_0 20 rfl rfl)
theorem dX6_reads_21 : decode cX6_reads 21 = .ok (.iconst 0, 1) := dk_3 (dk_at dksX6_reads_0 21 rfl rfl)
theorem dX6_reads_22 : decode cX6_reads 22 = .ok (.istore_n 1, 1) := dk_60 (dk_at dksX6_reads_0 22 rfl rfl)
theorem dX6_reads_23 : decode cX6_reads 23 = .ok (.iload_n 1, 1) := dk_27 (dk_at dksX6_reads_0 23 rfl rfl)
theorem dX6_reads_24 : decode cX6_reads 24 = .ok (.iconst 3, 1) := dk_6 (dk_at dksX6_reads_1 0 rfl rfl)
theorem dX6_reads_25 : decode cX6_reads 25 = .ok (.if_icmp .ge 56, 3) := dk_162 0 56 (dk_at dksX6_reads_1 1 rfl rfl)
theorem dX6_reads_28 : decode cX6_reads 28 = .ok (.aload_n 0, 1) := dk_42 (dk_at dksX6_reads_1 4 rfl rfl)
theorem dX6_reads_29 : decode cX6_reads 29 = .ok (.invokevirtual 188, 3) := dk_182 0 188 (dk_at dksX6_reads_1 5 rfl rfl)
theorem dX6_reads_32 : decode cX6_reads 32 = .ok (.ifCond .eq 49, 3) := dk_153 0 49 (dk_at dksX6_reads_1 8 rfl rfl)
theorem dX6_reads_35 : decode cX6_reads 35 = .ok (.aload_n 0, 1) := dk_42 (dk_at dksX6_reads_1 11 rfl rfl)
theorem dX6_reads_36 : decode cX6_reads 36 = .ok (.bipush 10, 2) := dk_16 10 (dk_at dksX6_reads_1 12 rfl rfl)
theorem dX6_reads_38 : decode cX6_reads 38 = .ok (.aload_n 0, 1) := dk_42 (dk_at dksX6_reads_1 14 rfl rfl)
theorem dX6_reads_39 : decode cX6_reads 39 = .ok (.getfield 185, 3) := dk_180 0 185 (dk_at dksX6_reads_1 15 rfl rfl)
theorem dX6_reads_42 : decode cX6_reads 42 = .ok (.imul, 1) := dk_104 (dk_at dksX6_reads_1 18 rfl rfl)
theorem dX6_reads_43 : decode cX6_reads 43 = .ok (.aload_n 0, 1) := dk_42 (dk_at dksX6_reads_1 19 rfl rfl)
theorem dX6_reads_44 : decode cX6_reads 44 = .ok (.getfield 68, 3) := dk_180 0 68 (dk_at dksX6_reads_1 20 rfl rfl)
theorem dX6_reads_47 : decode cX6_reads 47 = .ok (.aload_n 0, 1) := dk_42 (dk_at dksX6_reads_1 23 rfl rfl)
theorem dX6_reads_48 : decode cX6_reads 48 = .ok (.getfield 182, 3) := dk_180 0 182 (dk_at dksX6_reads_2 0 rfl rfl)
theorem dX6_reads_51 : decode cX6_reads 51 = .ok (.aload_n 0, 1) := dk_42 (dk_at dksX6_reads_2 3 rfl rfl)
theorem dX6_reads_52 : decode cX6_reads 52 = .ok (.getfield 176, 3) := dk_180 0 176 (dk_at dksX6_reads_2 4 rfl rfl)
theorem dX6_reads_55 : decode cX6_reads 55 = .ok (.iadd, 1) := dk_96 (dk_at dksX6_reads_2 7 rfl rfl)
theorem dX6_reads_56 : decode cX6_reads 56 = .ok (.laload, 1) := dk_47 (dk_at dksX6_reads_2 8 rfl rfl)
theorem dX6_reads_57 : decode cX6_reads 57 = .ok (.l2i, 1) := dk_136 (dk_at dksX6_reads_2 9 rfl rfl)
theorem dX6_reads_58 : decode cX6_reads 58 = .ok (.iadd, 1) := dk_96 (dk_at dksX6_reads_2 10 rfl rfl)
theorem dX6_reads_59 : decode cX6_reads 59 = .ok (.bipush 48, 2) := dk_16 48 (dk_at dksX6_reads_2 11 rfl rfl)
theorem dX6_reads_61 : decode cX6_reads 61 = .ok (.isub, 1) := dk_100 (dk_at dksX6_reads_2 13 rfl rfl)
theorem dX6_reads_62 : decode cX6_reads 62 = .ok (.putfield 185, 3) := dk_181 0 185 (dk_at dksX6_reads_2 14 rfl rfl)
theorem dX6_reads_65 : decode cX6_reads 65 = .ok (.aload_n 0, 1) := dk_42 (dk_at dksX6_reads_2 17 rfl rfl)
theorem dX6_reads_66 : decode cX6_reads 66 = .ok (.dup, 1) := dk_89 (dk_at dksX6_reads_2 18 rfl rfl)
theorem dX6_reads_67 : decode cX6_reads 67 = .ok (.getfield 176, 3) := dk_180 0 176 (dk_at dksX6_reads_2 19 rfl rfl)
theorem dX6_reads_70 : decode cX6_reads 70 = .ok (.iconst 1, 1) := dk_4 (dk_at dksX6_reads_2 22 rfl rfl)
theorem dX6_reads_71 : decode cX6_reads 71 = .ok (.iadd, 1) := dk_96 (dk_at dksX6_reads_2 23 rfl rfl)
theorem dX6_reads_72 : decode cX6_reads 72 = .ok (.putfield 176, 3) := dk_181 0 176 (dk_at dksX6_reads_3 0 rfl rfl)
theorem dX6_reads_75 : decode cX6_reads 75 = .ok (.iinc 1 1, 3) := dk_132 1 1 (dk_at dksX6_reads_3 3 rfl rfl)
theorem dX6_reads_78 : decode cX6_reads 78 = .ok (.goto (-55), 3) := dk_167 255 201 (dk_at dksX6_reads_3 6 rfl rfl)
theorem dX6_reads_81 : decode cX6_reads 81 = .ok (.iconst 1, 1) := dk_4 (dk_at dksX6_reads_3 9 rfl rfl)
theorem dX6_reads_82 : decode cX6_reads 82 = .ok (.ireturn, 1) := dk_172 (dk_at dksX6_reads_3 10 rfl rfl)
abbrev cX6_isDigit : ByteArray := prog_23_method_33_code
def yX6_isDigit : MethodName := ⟨RX6, "isDigit", "()Z"⟩
def dkwX6_isDigit_2 : List UInt8 := [163, 0, 7, 4, 167, 0, 4, 3, 172]
abbrev dktX6_isDigit_2 : List UInt8 := dkwX6_isDigit_2 ++ []
def dkwX6_isDigit_1 : List UInt8 := [47, 136, 16, 48, 161, 0, 27, 42, 180, 0, 68, 42, 180, 0, 182, 42, 180, 0, 176, 96, 47, 136, 16, 57]
abbrev dktX6_isDigit_1 : List UInt8 := dkwX6_isDigit_1 ++ dktX6_isDigit_2
def dkwX6_isDigit_0 : List UInt8 := [42, 180, 0, 176, 42, 180, 0, 179, 162, 0, 47, 42, 180, 0, 68, 42, 180, 0, 182, 42, 180, 0, 176, 96]
abbrev dktX6_isDigit_0 : List UInt8 := dkwX6_isDigit_0 ++ dktX6_isDigit_1
theorem dksX6_isDigit_0 : cX6_isDigit.data.toList.drop 0 = dktX6_isDigit_0 := by decide +kernel
theorem dksX6_isDigit_1 : cX6_isDigit.data.toList.drop 24 = dktX6_isDigit_1 := dk_seg dksX6_isDigit_0 24 rfl rfl
theorem dksX6_isDigit_2 : cX6_isDigit.data.toList.drop 48 = dktX6_isDigit_2 := dk_seg dksX6_isDigit_1 24 rfl rfl
theorem dX6_isDigit_0 : decode cX6_isDigit 0 = .ok (.aload_n 0, 1) := dk_42 (dk_at dksX6_isDigit_0 0 rfl rfl)
theorem dX6_isDigit_1 : decode cX6_isDigit 1 = .ok (.getfield 176, 3) := dk_180 0 176 (dk_at dksX6_isDigit_0 1 rfl rfl)
theorem dX6_isDigit_4 : decode cX6_isDigit 4 = .ok (.aload_n 0, 1) := dk_42 (dk_at dksX6_isDigit_0 4 rfl rfl)
theorem dX6_isDigit_5 : decode cX6_isDigit 5 = .ok (.getfield 179, 3) := dk_180 0 179 (dk_at dksX6_isDigit_0 5 rfl rfl)
theorem dX6_isDigit_8 : decode cX6_isDigit 8 = .ok (.if_icmp .ge 47, 3) := dk_162 0 47 (dk_at dksX6_isDigit_0 8 rfl rfl)
theorem dX6_isDigit_11 : decode cX6_isDigit 11 = .ok (.aload_n 0, 1) := dk_42 (dk_at dksX6_isDigit_0 11 rfl rfl)
theorem dX6_isDigit_12 : decode cX6_isDigit 12 = .ok (.getfield 68, 3) := dk_180 0 68 (dk_at dksX6_isDigit_0 12 rfl rfl)
theorem dX6_isDigit_15 : decode cX6_isDigit 15 = .ok (.aload_n 0, 1) := dk_42 (dk_at dksX6_isDigit_0 15 rfl rfl)
theorem dX6_isDigit_16 : decode cX6_isDigit 16 = .ok (.getfield 182, 3) := dk_180 0 182 (dk_at dksX6_isDigit_0 16 rfl rfl)
theorem dX6_isDigit_19 : decode cX6_isDigit 19 = .ok (.aload_n 0, 1) := dk_42 (dk_at dksX6_isDigit_0 19 rfl rfl)
theorem dX6_isDigit_20 : decode cX6_isDigit 20 = .ok (.getfield 176, 3) := dk_180 0 176 (dk_at dksX6_isDigit_0 20 rfl rfl)
theorem dX6_isDigit_23 : decode cX6_isDigit 23 = .ok (.iadd, 1) := dk_96 (dk_at dksX6_isDigit_0 23 rfl rfl)
theorem dX6_isDigit_24 : decode cX6_isDigit 24 = .ok (.laload, 1) := dk_47 (dk_at dksX6_isDigit_1 0 rfl rfl)
theorem dX6_isDigit_25 : decode cX6_isDigit 25 = .ok (.l2i, 1) := dk_136 (dk_at dksX6_isDigit_1 1 rfl rfl)
theorem dX6_isDigit_26 : decode cX6_isDigit 26 = .ok (.bipush 48, 2) := dk_16 48 (dk_at dksX6_isDigit_1 2 rfl rfl)
theorem dX6_isDigit_28 : decode cX6_isDigit 28 = .ok (.if_icmp .lt 27, 3) := dk_161 0 27 (dk_at dksX6_isDigit_1 4 rfl rfl)
theorem dX6_isDigit_31 : decode cX6_isDigit 31 = .ok (.aload_n 0, 1) := dk_42 (dk_at dksX6_isDigit_1 7 rfl rfl)
theorem dX6_isDigit_32 : decode cX6_isDigit 32 = .ok (.getfield 68, 3) := dk_180 0 68 (dk_at dksX6_isDigit_1 8 rfl rfl)
theorem dX6_isDigit_35 : decode cX6_isDigit 35 = .ok (.aload_n 0, 1) := dk_42 (dk_at dksX6_isDigit_1 11 rfl rfl)
theorem dX6_isDigit_36 : decode cX6_isDigit 36 = .ok (.getfield 182, 3) := dk_180 0 182 (dk_at dksX6_isDigit_1 12 rfl rfl)
theorem dX6_isDigit_39 : decode cX6_isDigit 39 = .ok (.aload_n 0, 1) := dk_42 (dk_at dksX6_isDigit_1 15 rfl rfl)
theorem dX6_isDigit_40 : decode cX6_isDigit 40 = .ok (.getfield 176, 3) := dk_180 0 176 (dk_at dksX6_isDigit_1 16 rfl rfl)
theorem dX6_isDigit_43 : decode cX6_isDigit 43 = .ok (.iadd, 1) := dk_96 (dk_at dksX6_isDigit_1 19 rfl rfl)
theorem dX6_isDigit_44 : decode cX6_isDigit 44 = .ok (.laload, 1) := dk_47 (dk_at dksX6_isDigit_1 20 rfl rfl)
theorem dX6_isDigit_45 : decode cX6_isDigit 45 = .ok (.l2i, 1) := dk_136 (dk_at dksX6_isDigit_1 21 rfl rfl)
theorem dX6_isDigit_46 : decode cX6_isDigit 46 = .ok (.bipush 57, 2) := dk_16 57 (dk_at dksX6_isDigit_1 22 rfl rfl)
theorem dX6_isDigit_48 : decode cX6_isDigit 48 = .ok (.if_icmp .gt 7, 3) := dk_163 0 7 (dk_at dksX6_isDigit_2 0 rfl rfl)
theorem dX6_isDigit_51 : decode cX6_isDigit 51 = .ok (.iconst 1, 1) := dk_4 (dk_at dksX6_isDigit_2 3 rfl rfl)
theorem dX6_isDigit_52 : decode cX6_isDigit 52 = .ok (.goto 4, 3) := dk_167 0 4 (dk_at dksX6_isDigit_2 4 rfl rfl)
theorem dX6_isDigit_55 : decode cX6_isDigit 55 = .ok (.iconst 0, 1) := dk_3 (dk_at dksX6_isDigit_2 7 rfl rfl)
theorem dX6_isDigit_56 : decode cX6_isDigit 56 = .ok (.ireturn, 1) := dk_172 (dk_at dksX6_isDigit_2 8 rfl rfl)
abbrev cX6_isSo : ByteArray := prog_23_method_35_code
def yX6_isSo : MethodName := ⟨RX6, "isSo", "(II)Z"⟩
def dkwX6_isSo_9 : List UInt8 := [180, 0, 185, 182, 0, 159, 172]
abbrev dktX6_isSo_9 : List UInt8 := dkwX6_isSo_9 ++ []
def dkwX6_isSo_8 : List UInt8 := [3, 167, 0, 17, 42, 180, 0, 185, 16, 99, 163, 0, 7, 4, 167, 0, 4, 3, 172, 42, 27, 7, 100, 42]
abbrev dktX6_isSo_8 : List UInt8 := dkwX6_isSo_8 ++ dktX6_isSo_9
def dkwX6_isSo_7 : List UInt8 := [167, 0, 4, 3, 172, 28, 154, 0, 22, 42, 180, 0, 185, 42, 180, 0, 117, 162, 0, 7, 4, 167, 0, 21]
abbrev dktX6_isSo_7 : List UInt8 := dkwX6_isSo_7 ++ dktX6_isSo_8
def dkwX6_isSo_6 : List UInt8 := [42, 180, 0, 185, 28, 154, 0, 10, 42, 180, 0, 117, 167, 0, 7, 42, 180, 0, 120, 162, 0, 7, 4]
abbrev dktX6_isSo_6 : List UInt8 := dkwX6_isSo_6 ++ dktX6_isSo_7
def dkwX6_isSo_5 : List UInt8 := [16, 9, 163, 0, 20, 28, 4, 159, 0, 11, 42, 180, 0, 185, 4, 161, 0, 7, 4, 167, 0, 4, 3, 172]
abbrev dktX6_isSo_5 : List UInt8 := dkwX6_isSo_5 ++ dktX6_isSo_6
def dkwX6_isSo_4 : List UInt8 := [4, 161, 0, 16, 42, 180, 0, 185, 16, 9, 163, 0, 7, 4, 167, 0, 4, 3, 172, 42, 180, 0, 185]
abbrev dktX6_isSo_4 : List UInt8 := dkwX6_isSo_4 ++ dktX6_isSo_5
def dkwX6_isSo_3 : List UInt8 := [160, 0, 20, 42, 180, 0, 185, 16, 9, 163, 0, 7, 4, 167, 0, 29, 3, 167, 0, 25, 42, 180, 0, 185]
abbrev dktX6_isSo_3 : List UInt8 := dkwX6_isSo_3 ++ dktX6_isSo_4
def dkwX6_isSo_2 : List UInt8 := [28, 154, 0, 20, 42, 180, 0, 185, 16, 6, 163, 0, 7, 4, 167, 0, 51, 3, 167, 0, 47, 28, 4]
abbrev dktX6_isSo_2 : List UInt8 := dkwX6_isSo_2 ++ dktX6_isSo_3
def dkwX6_isSo_1 : List UInt8 := [170, 0, 0, 0, 0, 0, 191, 0, 0, 0, 0, 0, 0, 0, 3, 0, 0, 0, 31, 0, 0, 0, 97, 0, 0, 0, 125, 0, 0, 0, 153]
abbrev dktX6_isSo_1 : List UInt8 := dkwX6_isSo_1 ++ dktX6_isSo_2
def dkwX6_isSo_0 : List UInt8 := [27]
abbrev dktX6_isSo_0 : List UInt8 := dkwX6_isSo_0 ++ dktX6_isSo_1
theorem dksX6_isSo_0 : cX6_isSo.data.toList.drop 0 = dktX6_isSo_0 := by decide +kernel
theorem dksX6_isSo_1 : cX6_isSo.data.toList.drop 1 = dktX6_isSo_1 := dk_seg dksX6_isSo_0 1 rfl rfl
theorem dksX6_isSo_2 : cX6_isSo.data.toList.drop 32 = dktX6_isSo_2 := dk_seg dksX6_isSo_1 31 rfl rfl
theorem dksX6_isSo_3 : cX6_isSo.data.toList.drop 55 = dktX6_isSo_3 := dk_seg dksX6_isSo_2 23 rfl rfl
theorem dksX6_isSo_4 : cX6_isSo.data.toList.drop 79 = dktX6_isSo_4 := dk_seg dksX6_isSo_3 24 rfl rfl
theorem dksX6_isSo_5 : cX6_isSo.data.toList.drop 102 = dktX6_isSo_5 := dk_seg dksX6_isSo_4 23 rfl rfl
theorem dksX6_isSo_6 : cX6_isSo.data.toList.drop 126 = dktX6_isSo_6 := dk_seg dksX6_isSo_5 24 rfl rfl
theorem dksX6_isSo_7 : cX6_isSo.data.toList.drop 149 = dktX6_isSo_7 := dk_seg dksX6_isSo_6 23 rfl rfl
theorem dksX6_isSo_8 : cX6_isSo.data.toList.drop 173 = dktX6_isSo_8 := dk_seg dksX6_isSo_7 24 rfl rfl
theorem dksX6_isSo_9 : cX6_isSo.data.toList.drop 197 = dktX6_isSo_9 := dk_seg dksX6_isSo_8 24 rfl rfl
theorem dX6_isSo_0 : decode cX6_isSo 0 = .ok (.iload_n 1, 1) := dk_27 (dk_at dksX6_isSo_0 0 rfl rfl)
theorem dX6_isSo_1 : decode cX6_isSo 1 = .ok (.tableswitch 191 0 3 #[31, 97, 125, 153], 31) := by decide +kernel
theorem dX6_isSo_32 : decode cX6_isSo 32 = .ok (.iload_n 2, 1) := dk_28 (dk_at dksX6_isSo_2 0 rfl rfl)
theorem dX6_isSo_33 : decode cX6_isSo 33 = .ok (.ifCond .ne 20, 3) := dk_154 0 20 (dk_at dksX6_isSo_2 1 rfl rfl)
theorem dX6_isSo_36 : decode cX6_isSo 36 = .ok (.aload_n 0, 1) := dk_42 (dk_at dksX6_isSo_2 4 rfl rfl)
theorem dX6_isSo_37 : decode cX6_isSo 37 = .ok (.getfield 185, 3) := dk_180 0 185 (dk_at dksX6_isSo_2 5 rfl rfl)
theorem dX6_isSo_40 : decode cX6_isSo 40 = .ok (.bipush 6, 2) := dk_16 6 (dk_at dksX6_isSo_2 8 rfl rfl)
theorem dX6_isSo_42 : decode cX6_isSo 42 = .ok (.if_icmp .gt 7, 3) := dk_163 0 7 (dk_at dksX6_isSo_2 10 rfl rfl)
theorem dX6_isSo_45 : decode cX6_isSo 45 = .ok (.iconst 1, 1) := dk_4 (dk_at dksX6_isSo_2 13 rfl rfl)
theorem dX6_isSo_46 : decode cX6_isSo 46 = .ok (.goto 51, 3) := dk_167 0 51 (dk_at dksX6_isSo_2 14 rfl rfl)
theorem dX6_isSo_49 : decode cX6_isSo 49 = .ok (.iconst 0, 1) := dk_3 (dk_at dksX6_isSo_2 17 rfl rfl)
theorem dX6_isSo_50 : decode cX6_isSo 50 = .ok (.goto 47, 3) := dk_167 0 47 (dk_at dksX6_isSo_2 18 rfl rfl)
theorem dX6_isSo_53 : decode cX6_isSo 53 = .ok (.iload_n 2, 1) := dk_28 (dk_at dksX6_isSo_2 21 rfl rfl)
theorem dX6_isSo_54 : decode cX6_isSo 54 = .ok (.iconst 1, 1) := dk_4 (dk_at dksX6_isSo_2 22 rfl rfl)
theorem dX6_isSo_55 : decode cX6_isSo 55 = .ok (.if_icmp .ne 20, 3) := dk_160 0 20 (dk_at dksX6_isSo_3 0 rfl rfl)
theorem dX6_isSo_58 : decode cX6_isSo 58 = .ok (.aload_n 0, 1) := dk_42 (dk_at dksX6_isSo_3 3 rfl rfl)
theorem dX6_isSo_59 : decode cX6_isSo 59 = .ok (.getfield 185, 3) := dk_180 0 185 (dk_at dksX6_isSo_3 4 rfl rfl)
theorem dX6_isSo_62 : decode cX6_isSo 62 = .ok (.bipush 9, 2) := dk_16 9 (dk_at dksX6_isSo_3 7 rfl rfl)
theorem dX6_isSo_64 : decode cX6_isSo 64 = .ok (.if_icmp .gt 7, 3) := dk_163 0 7 (dk_at dksX6_isSo_3 9 rfl rfl)
theorem dX6_isSo_67 : decode cX6_isSo 67 = .ok (.iconst 1, 1) := dk_4 (dk_at dksX6_isSo_3 12 rfl rfl)
theorem dX6_isSo_68 : decode cX6_isSo 68 = .ok (.goto 29, 3) := dk_167 0 29 (dk_at dksX6_isSo_3 13 rfl rfl)
theorem dX6_isSo_71 : decode cX6_isSo 71 = .ok (.iconst 0, 1) := dk_3 (dk_at dksX6_isSo_3 16 rfl rfl)
theorem dX6_isSo_72 : decode cX6_isSo 72 = .ok (.goto 25, 3) := dk_167 0 25 (dk_at dksX6_isSo_3 17 rfl rfl)
theorem dX6_isSo_75 : decode cX6_isSo 75 = .ok (.aload_n 0, 1) := dk_42 (dk_at dksX6_isSo_3 20 rfl rfl)
theorem dX6_isSo_76 : decode cX6_isSo 76 = .ok (.getfield 185, 3) := dk_180 0 185 (dk_at dksX6_isSo_3 21 rfl rfl)
theorem dX6_isSo_79 : decode cX6_isSo 79 = .ok (.iconst 1, 1) := dk_4 (dk_at dksX6_isSo_4 0 rfl rfl)
theorem dX6_isSo_80 : decode cX6_isSo 80 = .ok (.if_icmp .lt 16, 3) := dk_161 0 16 (dk_at dksX6_isSo_4 1 rfl rfl)
theorem dX6_isSo_83 : decode cX6_isSo 83 = .ok (.aload_n 0, 1) := dk_42 (dk_at dksX6_isSo_4 4 rfl rfl)
theorem dX6_isSo_84 : decode cX6_isSo 84 = .ok (.getfield 185, 3) := dk_180 0 185 (dk_at dksX6_isSo_4 5 rfl rfl)
theorem dX6_isSo_87 : decode cX6_isSo 87 = .ok (.bipush 9, 2) := dk_16 9 (dk_at dksX6_isSo_4 8 rfl rfl)
theorem dX6_isSo_89 : decode cX6_isSo 89 = .ok (.if_icmp .gt 7, 3) := dk_163 0 7 (dk_at dksX6_isSo_4 10 rfl rfl)
theorem dX6_isSo_92 : decode cX6_isSo 92 = .ok (.iconst 1, 1) := dk_4 (dk_at dksX6_isSo_4 13 rfl rfl)
theorem dX6_isSo_93 : decode cX6_isSo 93 = .ok (.goto 4, 3) := dk_167 0 4 (dk_at dksX6_isSo_4 14 rfl rfl)
theorem dX6_isSo_96 : decode cX6_isSo 96 = .ok (.iconst 0, 1) := dk_3 (dk_at dksX6_isSo_4 17 rfl rfl)
theorem dX6_isSo_97 : decode cX6_isSo 97 = .ok (.ireturn, 1) := dk_172 (dk_at dksX6_isSo_4 18 rfl rfl)
theorem dX6_isSo_98 : decode cX6_isSo 98 = .ok (.aload_n 0, 1) := dk_42 (dk_at dksX6_isSo_4 19 rfl rfl)
theorem dX6_isSo_99 : decode cX6_isSo 99 = .ok (.getfield 185, 3) := dk_180 0 185 (dk_at dksX6_isSo_4 20 rfl rfl)
theorem dX6_isSo_102 : decode cX6_isSo 102 = .ok (.bipush 9, 2) := dk_16 9 (dk_at dksX6_isSo_5 0 rfl rfl)
theorem dX6_isSo_104 : decode cX6_isSo 104 = .ok (.if_icmp .gt 20, 3) := dk_163 0 20 (dk_at dksX6_isSo_5 2 rfl rfl)
theorem dX6_isSo_107 : decode cX6_isSo 107 = .ok (.iload_n 2, 1) := dk_28 (dk_at dksX6_isSo_5 5 rfl rfl)
theorem dX6_isSo_108 : decode cX6_isSo 108 = .ok (.iconst 1, 1) := dk_4 (dk_at dksX6_isSo_5 6 rfl rfl)
theorem dX6_isSo_109 : decode cX6_isSo 109 = .ok (.if_icmp .eq 11, 3) := dk_159 0 11 (dk_at dksX6_isSo_5 7 rfl rfl)
theorem dX6_isSo_112 : decode cX6_isSo 112 = .ok (.aload_n 0, 1) := dk_42 (dk_at dksX6_isSo_5 10 rfl rfl)
theorem dX6_isSo_113 : decode cX6_isSo 113 = .ok (.getfield 185, 3) := dk_180 0 185 (dk_at dksX6_isSo_5 11 rfl rfl)
theorem dX6_isSo_116 : decode cX6_isSo 116 = .ok (.iconst 1, 1) := dk_4 (dk_at dksX6_isSo_5 14 rfl rfl)
theorem dX6_isSo_117 : decode cX6_isSo 117 = .ok (.if_icmp .lt 7, 3) := dk_161 0 7 (dk_at dksX6_isSo_5 15 rfl rfl)
theorem dX6_isSo_120 : decode cX6_isSo 120 = .ok (.iconst 1, 1) := dk_4 (dk_at dksX6_isSo_5 18 rfl rfl)
theorem dX6_isSo_121 : decode cX6_isSo 121 = .ok (.goto 4, 3) := dk_167 0 4 (dk_at dksX6_isSo_5 19 rfl rfl)
theorem dX6_isSo_124 : decode cX6_isSo 124 = .ok (.iconst 0, 1) := dk_3 (dk_at dksX6_isSo_5 22 rfl rfl)
theorem dX6_isSo_125 : decode cX6_isSo 125 = .ok (.ireturn, 1) := dk_172 (dk_at dksX6_isSo_5 23 rfl rfl)
theorem dX6_isSo_126 : decode cX6_isSo 126 = .ok (.aload_n 0, 1) := dk_42 (dk_at dksX6_isSo_6 0 rfl rfl)
theorem dX6_isSo_127 : decode cX6_isSo 127 = .ok (.getfield 185, 3) := dk_180 0 185 (dk_at dksX6_isSo_6 1 rfl rfl)
theorem dX6_isSo_130 : decode cX6_isSo 130 = .ok (.iload_n 2, 1) := dk_28 (dk_at dksX6_isSo_6 4 rfl rfl)
theorem dX6_isSo_131 : decode cX6_isSo 131 = .ok (.ifCond .ne 10, 3) := dk_154 0 10 (dk_at dksX6_isSo_6 5 rfl rfl)
theorem dX6_isSo_134 : decode cX6_isSo 134 = .ok (.aload_n 0, 1) := dk_42 (dk_at dksX6_isSo_6 8 rfl rfl)
theorem dX6_isSo_135 : decode cX6_isSo 135 = .ok (.getfield 117, 3) := dk_180 0 117 (dk_at dksX6_isSo_6 9 rfl rfl)
theorem dX6_isSo_138 : decode cX6_isSo 138 = .ok (.goto 7, 3) := dk_167 0 7 (dk_at dksX6_isSo_6 12 rfl rfl)
theorem dX6_isSo_141 : decode cX6_isSo 141 = .ok (.aload_n 0, 1) := dk_42 (dk_at dksX6_isSo_6 15 rfl rfl)
theorem dX6_isSo_142 : decode cX6_isSo 142 = .ok (.getfield 120, 3) := dk_180 0 120 (dk_at dksX6_isSo_6 16 rfl rfl)
theorem dX6_isSo_145 : decode cX6_isSo 145 = .ok (.if_icmp .ge 7, 3) := dk_162 0 7 (dk_at dksX6_isSo_6 19 rfl rfl)
theorem dX6_isSo_148 : decode cX6_isSo 148 = .ok (.iconst 1, 1) := dk_4 (dk_at dksX6_isSo_6 22 rfl rfl)
theorem dX6_isSo_149 : decode cX6_isSo 149 = .ok (.goto 4, 3) := dk_167 0 4 (dk_at dksX6_isSo_7 0 rfl rfl)
theorem dX6_isSo_152 : decode cX6_isSo 152 = .ok (.iconst 0, 1) := dk_3 (dk_at dksX6_isSo_7 3 rfl rfl)
theorem dX6_isSo_153 : decode cX6_isSo 153 = .ok (.ireturn, 1) := dk_172 (dk_at dksX6_isSo_7 4 rfl rfl)
theorem dX6_isSo_154 : decode cX6_isSo 154 = .ok (.iload_n 2, 1) := dk_28 (dk_at dksX6_isSo_7 5 rfl rfl)
theorem dX6_isSo_155 : decode cX6_isSo 155 = .ok (.ifCond .ne 22, 3) := dk_154 0 22 (dk_at dksX6_isSo_7 6 rfl rfl)
theorem dX6_isSo_158 : decode cX6_isSo 158 = .ok (.aload_n 0, 1) := dk_42 (dk_at dksX6_isSo_7 9 rfl rfl)
theorem dX6_isSo_159 : decode cX6_isSo 159 = .ok (.getfield 185, 3) := dk_180 0 185 (dk_at dksX6_isSo_7 10 rfl rfl)
theorem dX6_isSo_162 : decode cX6_isSo 162 = .ok (.aload_n 0, 1) := dk_42 (dk_at dksX6_isSo_7 13 rfl rfl)
theorem dX6_isSo_163 : decode cX6_isSo 163 = .ok (.getfield 117, 3) := dk_180 0 117 (dk_at dksX6_isSo_7 14 rfl rfl)
theorem dX6_isSo_166 : decode cX6_isSo 166 = .ok (.if_icmp .ge 7, 3) := dk_162 0 7 (dk_at dksX6_isSo_7 17 rfl rfl)
theorem dX6_isSo_169 : decode cX6_isSo 169 = .ok (.iconst 1, 1) := dk_4 (dk_at dksX6_isSo_7 20 rfl rfl)
theorem dX6_isSo_170 : decode cX6_isSo 170 = .ok (.goto 21, 3) := dk_167 0 21 (dk_at dksX6_isSo_7 21 rfl rfl)
theorem dX6_isSo_173 : decode cX6_isSo 173 = .ok (.iconst 0, 1) := dk_3 (dk_at dksX6_isSo_8 0 rfl rfl)
theorem dX6_isSo_174 : decode cX6_isSo 174 = .ok (.goto 17, 3) := dk_167 0 17 (dk_at dksX6_isSo_8 1 rfl rfl)
theorem dX6_isSo_177 : decode cX6_isSo 177 = .ok (.aload_n 0, 1) := dk_42 (dk_at dksX6_isSo_8 4 rfl rfl)
theorem dX6_isSo_178 : decode cX6_isSo 178 = .ok (.getfield 185, 3) := dk_180 0 185 (dk_at dksX6_isSo_8 5 rfl rfl)
theorem dX6_isSo_181 : decode cX6_isSo 181 = .ok (.bipush 99, 2) := dk_16 99 (dk_at dksX6_isSo_8 8 rfl rfl)
theorem dX6_isSo_183 : decode cX6_isSo 183 = .ok (.if_icmp .gt 7, 3) := dk_163 0 7 (dk_at dksX6_isSo_8 10 rfl rfl)
theorem dX6_isSo_186 : decode cX6_isSo 186 = .ok (.iconst 1, 1) := dk_4 (dk_at dksX6_isSo_8 13 rfl rfl)
theorem dX6_isSo_187 : decode cX6_isSo 187 = .ok (.goto 4, 3) := dk_167 0 4 (dk_at dksX6_isSo_8 14 rfl rfl)
theorem dX6_isSo_190 : decode cX6_isSo 190 = .ok (.iconst 0, 1) := dk_3 (dk_at dksX6_isSo_8 17 rfl rfl)
theorem dX6_isSo_191 : decode cX6_isSo 191 = .ok (.ireturn, 1) := dk_172 (dk_at dksX6_isSo_8 18 rfl rfl)
theorem dX6_isSo_192 : decode cX6_isSo 192 = .ok (.aload_n 0, 1) := dk_42 (dk_at dksX6_isSo_8 19 rfl rfl)
theorem dX6_isSo_193 : decode cX6_isSo 193 = .ok (.iload_n 1, 1) := dk_27 (dk_at dksX6_isSo_8 20 rfl rfl)
theorem dX6_isSo_194 : decode cX6_isSo 194 = .ok (.iconst 4, 1) := dk_7 (dk_at dksX6_isSo_8 21 rfl rfl)
theorem dX6_isSo_195 : decode cX6_isSo 195 = .ok (.isub, 1) := dk_100 (dk_at dksX6_isSo_8 22 rfl rfl)
theorem dX6_isSo_196 : decode cX6_isSo 196 = .ok (.aload_n 0, 1) := dk_42 (dk_at dksX6_isSo_8 23 rfl rfl)
theorem dX6_isSo_197 : decode cX6_isSo 197 = .ok (.getfield 185, 3) := dk_180 0 185 (dk_at dksX6_isSo_9 0 rfl rfl)
theorem dX6_isSo_200 : decode cX6_isSo 200 = .ok (.invokevirtual 159, 3) := dk_182 0 159 (dk_at dksX6_isSo_9 3 rfl rfl)
theorem dX6_isSo_203 : decode cX6_isSo 203 = .ok (.ireturn, 1) := dk_172 (dk_at dksX6_isSo_9 6 rfl rfl)
abbrev cX6_fault : ByteArray := prog_23_method_40_code
def yX6_fault : MethodName := ⟨RX6, "fault", "()I"⟩
theorem dX6_fault_0 : decode cX6_fault 0 = .ok (.aload_n 0, 1) := by decide +kernel
theorem dX6_fault_1 : decode cX6_fault 1 = .ok (.getfield 25, 3) := by decide +kernel
theorem dX6_fault_4 : decode cX6_fault 4 = .ok (.ireturn, 1) := by decide +kernel
abbrev cX6_behind : ByteArray := prog_23_method_60_code
def yX6_behind : MethodName := ⟨RX6, "behind", "(III)I"⟩
def dkwX6_behind_5 : List UInt8 := [167, 0, 19, 29, 6, 160, 0, 10, 42, 180, 1, 7, 167, 0, 7, 42, 180, 1, 10, 172]
abbrev dktX6_behind_5 : List UInt8 := dkwX6_behind_5 ++ []
def dkwX6_behind_4 : List UInt8 := [167, 0, 43, 29, 4, 160, 0, 10, 42, 180, 0, 254, 167, 0, 31, 29, 5, 160, 0, 10, 42, 180, 1, 4]
abbrev dktX6_behind_4 : List UInt8 := dkwX6_behind_4 ++ dktX6_behind_5
def dkwX6_behind_3 : List UInt8 := [180, 0, 7, 162, 0, 13, 42, 182, 1, 28, 132, 4, 1, 167, 255, 232, 29, 154, 0, 10, 42, 180, 1, 1]
abbrev dktX6_behind_3 : List UInt8 := dkwX6_behind_3 ++ dktX6_behind_4
def dkwX6_behind_2 : List UInt8 := [42, 27, 182, 0, 134, 42, 182, 1, 25, 3, 54, 4, 21, 4, 28, 162, 0, 24, 42, 180, 1, 1, 42]
abbrev dktX6_behind_2 : List UInt8 := dkwX6_behind_2 ++ dktX6_behind_3
def dkwX6_behind_1 : List UInt8 := [16, 251, 182, 0, 127, 172, 28, 155, 0, 10, 28, 17, 3, 231, 164, 0, 10, 42, 16, 250, 182, 0, 127, 172]
abbrev dktX6_behind_1 : List UInt8 := dkwX6_behind_1 ++ dktX6_behind_2
def dkwX6_behind_0 : List UInt8 := [42, 27, 182, 0, 131, 154, 0, 9, 42, 2, 182, 0, 127, 172, 29, 155, 0, 8, 29, 7, 164, 0, 10, 42]
abbrev dktX6_behind_0 : List UInt8 := dkwX6_behind_0 ++ dktX6_behind_1
theorem dksX6_behind_0 : cX6_behind.data.toList.drop 0 = dktX6_behind_0 := by decide +kernel
theorem dksX6_behind_1 : cX6_behind.data.toList.drop 24 = dktX6_behind_1 := dk_seg dksX6_behind_0 24 rfl rfl
theorem dksX6_behind_2 : cX6_behind.data.toList.drop 48 = dktX6_behind_2 := dk_seg dksX6_behind_1 24 rfl rfl
theorem dksX6_behind_3 : cX6_behind.data.toList.drop 71 = dktX6_behind_3 := dk_seg dksX6_behind_2 23 rfl rfl
theorem dksX6_behind_4 : cX6_behind.data.toList.drop 95 = dktX6_behind_4 := dk_seg dksX6_behind_3 24 rfl rfl
theorem dksX6_behind_5 : cX6_behind.data.toList.drop 119 = dktX6_behind_5 := dk_seg dksX6_behind_4 24 rfl rfl
theorem dX6_behind_0 : decode cX6_behind 0 = .ok (.aload_n 0, 1) := dk_42 (dk_at dksX6_behind_0 0 rfl rfl)
theorem dX6_behind_1 : decode cX6_behind 1 = .ok (.iload_n 1, 1) := dk_27 (dk_at dksX6_behind_0 1 rfl rfl)
theorem dX6_behind_2 : decode cX6_behind 2 = .ok (.invokevirtual 131, 3) := dk_182 0 131 (dk_at dksX6_behind_0 2 rfl rfl)
theorem dX6_behind_5 : decode cX6_behind 5 = .ok (.ifCond .ne 9, 3) := dk_154 0 9 (dk_at dksX6_behind_0 5 rfl rfl)
theorem dX6_behind_8 : decode cX6_behind 8 = .ok (.aload_n 0, 1) := dk_42 (dk_at dksX6_behind_0 8 rfl rfl)
theorem dX6_behind_9 : decode cX6_behind 9 = .ok (.iconst (-1), 1) := dk_2 (dk_at dksX6_behind_0 9 rfl rfl)
theorem dX6_behind_10 : decode cX6_behind 10 = .ok (.invokevirtual 127, 3) := dk_182 0 127 (dk_at dksX6_behind_0 10 rfl rfl)
theorem dX6_behind_13 : decode cX6_behind 13 = .ok (.ireturn, 1) := dk_172 (dk_at dksX6_behind_0 13 rfl rfl)
theorem dX6_behind_14 : decode cX6_behind 14 = .ok (.iload_n 3, 1) := dk_29 (dk_at dksX6_behind_0 14 rfl rfl)
theorem dX6_behind_15 : decode cX6_behind 15 = .ok (.ifCond .lt 8, 3) := dk_155 0 8 (dk_at dksX6_behind_0 15 rfl rfl)
theorem dX6_behind_18 : decode cX6_behind 18 = .ok (.iload_n 3, 1) := dk_29 (dk_at dksX6_behind_0 18 rfl rfl)
theorem dX6_behind_19 : decode cX6_behind 19 = .ok (.iconst 4, 1) := dk_7 (dk_at dksX6_behind_0 19 rfl rfl)
theorem dX6_behind_20 : decode cX6_behind 20 = .ok (.if_icmp .le 10, 3) := dk_164 0 10 (dk_at dksX6_behind_0 20 rfl rfl)
theorem dX6_behind_23 : decode cX6_behind 23 = .ok (.aload_n 0, 1) := dk_42 (dk_at dksX6_behind_0 23 rfl rfl)
theorem dX6_behind_24 : decode cX6_behind 24 = .ok (.bipush (-5), 2) := dk_16 251 (dk_at dksX6_behind_1 0 rfl rfl)
theorem dX6_behind_26 : decode cX6_behind 26 = .ok (.invokevirtual 127, 3) := dk_182 0 127 (dk_at dksX6_behind_1 2 rfl rfl)
theorem dX6_behind_29 : decode cX6_behind 29 = .ok (.ireturn, 1) := dk_172 (dk_at dksX6_behind_1 5 rfl rfl)
theorem dX6_behind_30 : decode cX6_behind 30 = .ok (.iload_n 2, 1) := dk_28 (dk_at dksX6_behind_1 6 rfl rfl)
theorem dX6_behind_31 : decode cX6_behind 31 = .ok (.ifCond .lt 10, 3) := dk_155 0 10 (dk_at dksX6_behind_1 7 rfl rfl)
theorem dX6_behind_34 : decode cX6_behind 34 = .ok (.iload_n 2, 1) := dk_28 (dk_at dksX6_behind_1 10 rfl rfl)
theorem dX6_behind_35 : decode cX6_behind 35 = .ok (.sipush 999, 3) := dk_17 3 231 (dk_at dksX6_behind_1 11 rfl rfl)
theorem dX6_behind_38 : decode cX6_behind 38 = .ok (.if_icmp .le 10, 3) := dk_164 0 10 (dk_at dksX6_behind_1 14 rfl rfl)
theorem dX6_behind_41 : decode cX6_behind 41 = .ok (.aload_n 0, 1) := dk_42 (dk_at dksX6_behind_1 17 rfl rfl)
theorem dX6_behind_42 : decode cX6_behind 42 = .ok (.bipush (-6), 2) := dk_16 250 (dk_at dksX6_behind_1 18 rfl rfl)
theorem dX6_behind_44 : decode cX6_behind 44 = .ok (.invokevirtual 127, 3) := dk_182 0 127 (dk_at dksX6_behind_1 20 rfl rfl)
theorem dX6_behind_47 : decode cX6_behind 47 = .ok (.ireturn, 1) := dk_172 (dk_at dksX6_behind_1 23 rfl rfl)
theorem dX6_behind_48 : decode cX6_behind 48 = .ok (.aload_n 0, 1) := dk_42 (dk_at dksX6_behind_2 0 rfl rfl)
theorem dX6_behind_49 : decode cX6_behind 49 = .ok (.iload_n 1, 1) := dk_27 (dk_at dksX6_behind_2 1 rfl rfl)
theorem dX6_behind_50 : decode cX6_behind 50 = .ok (.invokevirtual 134, 3) := dk_182 0 134 (dk_at dksX6_behind_2 2 rfl rfl)
theorem dX6_behind_53 : decode cX6_behind 53 = .ok (.aload_n 0, 1) := dk_42 (dk_at dksX6_behind_2 5 rfl rfl)
theorem dX6_behind_54 : decode cX6_behind 54 = .ok (.invokevirtual 281, 3) := dk_182 1 25 (dk_at dksX6_behind_2 6 rfl rfl)
theorem dX6_behind_57 : decode cX6_behind 57 = .ok (.iconst 0, 1) := dk_3 (dk_at dksX6_behind_2 9 rfl rfl)
theorem dX6_behind_58 : decode cX6_behind 58 = .ok (.istore 4, 2) := dk_54 4 (dk_at dksX6_behind_2 10 rfl rfl)
theorem dX6_behind_60 : decode cX6_behind 60 = .ok (.iload 4, 2) := dk_21 4 (dk_at dksX6_behind_2 12 rfl rfl)
theorem dX6_behind_62 : decode cX6_behind 62 = .ok (.iload_n 2, 1) := dk_28 (dk_at dksX6_behind_2 14 rfl rfl)
theorem dX6_behind_63 : decode cX6_behind 63 = .ok (.if_icmp .ge 24, 3) := dk_162 0 24 (dk_at dksX6_behind_2 15 rfl rfl)
theorem dX6_behind_66 : decode cX6_behind 66 = .ok (.aload_n 0, 1) := dk_42 (dk_at dksX6_behind_2 18 rfl rfl)
theorem dX6_behind_67 : decode cX6_behind 67 = .ok (.getfield 257, 3) := dk_180 1 1 (dk_at dksX6_behind_2 19 rfl rfl)
theorem dX6_behind_70 : decode cX6_behind 70 = .ok (.aload_n 0, 1) := dk_42 (dk_at dksX6_behind_2 22 rfl rfl)
theorem dX6_behind_71 : decode cX6_behind 71 = .ok (.getfield 7, 3) := dk_180 0 7 (dk_at dksX6_behind_3 0 rfl rfl)
theorem dX6_behind_74 : decode cX6_behind 74 = .ok (.if_icmp .ge 13, 3) := dk_162 0 13 (dk_at dksX6_behind_3 3 rfl rfl)
theorem dX6_behind_77 : decode cX6_behind 77 = .ok (.aload_n 0, 1) := dk_42 (dk_at dksX6_behind_3 6 rfl rfl)
theorem dX6_behind_78 : decode cX6_behind 78 = .ok (.invokevirtual 284, 3) := dk_182 1 28 (dk_at dksX6_behind_3 7 rfl rfl)
theorem dX6_behind_81 : decode cX6_behind 81 = .ok (.iinc 4 1, 3) := dk_132 4 1 (dk_at dksX6_behind_3 10 rfl rfl)
theorem dX6_behind_84 : decode cX6_behind 84 = .ok (.goto (-24), 3) := dk_167 255 232 (dk_at dksX6_behind_3 13 rfl rfl)
theorem dX6_behind_87 : decode cX6_behind 87 = .ok (.iload_n 3, 1) := dk_29 (dk_at dksX6_behind_3 16 rfl rfl)
theorem dX6_behind_88 : decode cX6_behind 88 = .ok (.ifCond .ne 10, 3) := dk_154 0 10 (dk_at dksX6_behind_3 17 rfl rfl)
theorem dX6_behind_91 : decode cX6_behind 91 = .ok (.aload_n 0, 1) := dk_42 (dk_at dksX6_behind_3 20 rfl rfl)
theorem dX6_behind_92 : decode cX6_behind 92 = .ok (.getfield 257, 3) := dk_180 1 1 (dk_at dksX6_behind_3 21 rfl rfl)
theorem dX6_behind_95 : decode cX6_behind 95 = .ok (.goto 43, 3) := dk_167 0 43 (dk_at dksX6_behind_4 0 rfl rfl)
theorem dX6_behind_98 : decode cX6_behind 98 = .ok (.iload_n 3, 1) := dk_29 (dk_at dksX6_behind_4 3 rfl rfl)
theorem dX6_behind_99 : decode cX6_behind 99 = .ok (.iconst 1, 1) := dk_4 (dk_at dksX6_behind_4 4 rfl rfl)
theorem dX6_behind_100 : decode cX6_behind 100 = .ok (.if_icmp .ne 10, 3) := dk_160 0 10 (dk_at dksX6_behind_4 5 rfl rfl)
theorem dX6_behind_103 : decode cX6_behind 103 = .ok (.aload_n 0, 1) := dk_42 (dk_at dksX6_behind_4 8 rfl rfl)
theorem dX6_behind_104 : decode cX6_behind 104 = .ok (.getfield 254, 3) := dk_180 0 254 (dk_at dksX6_behind_4 9 rfl rfl)
theorem dX6_behind_107 : decode cX6_behind 107 = .ok (.goto 31, 3) := dk_167 0 31 (dk_at dksX6_behind_4 12 rfl rfl)
theorem dX6_behind_110 : decode cX6_behind 110 = .ok (.iload_n 3, 1) := dk_29 (dk_at dksX6_behind_4 15 rfl rfl)
theorem dX6_behind_111 : decode cX6_behind 111 = .ok (.iconst 2, 1) := dk_5 (dk_at dksX6_behind_4 16 rfl rfl)
theorem dX6_behind_112 : decode cX6_behind 112 = .ok (.if_icmp .ne 10, 3) := dk_160 0 10 (dk_at dksX6_behind_4 17 rfl rfl)
theorem dX6_behind_115 : decode cX6_behind 115 = .ok (.aload_n 0, 1) := dk_42 (dk_at dksX6_behind_4 20 rfl rfl)
theorem dX6_behind_116 : decode cX6_behind 116 = .ok (.getfield 260, 3) := dk_180 1 4 (dk_at dksX6_behind_4 21 rfl rfl)
theorem dX6_behind_119 : decode cX6_behind 119 = .ok (.goto 19, 3) := dk_167 0 19 (dk_at dksX6_behind_5 0 rfl rfl)
theorem dX6_behind_122 : decode cX6_behind 122 = .ok (.iload_n 3, 1) := dk_29 (dk_at dksX6_behind_5 3 rfl rfl)
theorem dX6_behind_123 : decode cX6_behind 123 = .ok (.iconst 3, 1) := dk_6 (dk_at dksX6_behind_5 4 rfl rfl)
theorem dX6_behind_124 : decode cX6_behind 124 = .ok (.if_icmp .ne 10, 3) := dk_160 0 10 (dk_at dksX6_behind_5 5 rfl rfl)
theorem dX6_behind_127 : decode cX6_behind 127 = .ok (.aload_n 0, 1) := dk_42 (dk_at dksX6_behind_5 8 rfl rfl)
theorem dX6_behind_128 : decode cX6_behind 128 = .ok (.getfield 263, 3) := dk_180 1 7 (dk_at dksX6_behind_5 9 rfl rfl)
theorem dX6_behind_131 : decode cX6_behind 131 = .ok (.goto 7, 3) := dk_167 0 7 (dk_at dksX6_behind_5 12 rfl rfl)
theorem dX6_behind_134 : decode cX6_behind 134 = .ok (.aload_n 0, 1) := dk_42 (dk_at dksX6_behind_5 15 rfl rfl)
theorem dX6_behind_135 : decode cX6_behind 135 = .ok (.getfield 266, 3) := dk_180 1 10 (dk_at dksX6_behind_5 16 rfl rfl)
theorem dX6_behind_138 : decode cX6_behind 138 = .ok (.ireturn, 1) := dk_172 (dk_at dksX6_behind_5 19 rfl rfl)
abbrev cX6_starts : ByteArray := prog_23_method_48_code
def yX6_starts : MethodName := ⟨RX6, "starts", "()V"⟩
def dkwX6_starts_1 : List UInt8 := [181, 1, 7, 42, 3, 181, 1, 10, 177]
abbrev dktX6_starts_1 : List UInt8 := dkwX6_starts_1 ++ []
def dkwX6_starts_0 : List UInt8 := [42, 42, 180, 0, 233, 181, 1, 1, 42, 42, 180, 0, 19, 181, 0, 254, 42, 3, 181, 1, 4, 42, 3]
abbrev dktX6_starts_0 : List UInt8 := dkwX6_starts_0 ++ dktX6_starts_1
theorem dksX6_starts_0 : cX6_starts.data.toList.drop 0 = dktX6_starts_0 := by decide +kernel
theorem dksX6_starts_1 : cX6_starts.data.toList.drop 23 = dktX6_starts_1 := dk_seg dksX6_starts_0 23 rfl rfl
theorem dX6_starts_0 : decode cX6_starts 0 = .ok (.aload_n 0, 1) := dk_42 (dk_at dksX6_starts_0 0 rfl rfl)
theorem dX6_starts_1 : decode cX6_starts 1 = .ok (.aload_n 0, 1) := dk_42 (dk_at dksX6_starts_0 1 rfl rfl)
theorem dX6_starts_2 : decode cX6_starts 2 = .ok (.getfield 233, 3) := dk_180 0 233 (dk_at dksX6_starts_0 2 rfl rfl)
theorem dX6_starts_5 : decode cX6_starts 5 = .ok (.putfield 257, 3) := dk_181 1 1 (dk_at dksX6_starts_0 5 rfl rfl)
theorem dX6_starts_8 : decode cX6_starts 8 = .ok (.aload_n 0, 1) := dk_42 (dk_at dksX6_starts_0 8 rfl rfl)
theorem dX6_starts_9 : decode cX6_starts 9 = .ok (.aload_n 0, 1) := dk_42 (dk_at dksX6_starts_0 9 rfl rfl)
theorem dX6_starts_10 : decode cX6_starts 10 = .ok (.getfield 19, 3) := dk_180 0 19 (dk_at dksX6_starts_0 10 rfl rfl)
theorem dX6_starts_13 : decode cX6_starts 13 = .ok (.putfield 254, 3) := dk_181 0 254 (dk_at dksX6_starts_0 13 rfl rfl)
theorem dX6_starts_16 : decode cX6_starts 16 = .ok (.aload_n 0, 1) := dk_42 (dk_at dksX6_starts_0 16 rfl rfl)
theorem dX6_starts_17 : decode cX6_starts 17 = .ok (.iconst 0, 1) := dk_3 (dk_at dksX6_starts_0 17 rfl rfl)
theorem dX6_starts_18 : decode cX6_starts 18 = .ok (.putfield 260, 3) := dk_181 1 4 (dk_at dksX6_starts_0 18 rfl rfl)
theorem dX6_starts_21 : decode cX6_starts 21 = .ok (.aload_n 0, 1) := dk_42 (dk_at dksX6_starts_0 21 rfl rfl)
theorem dX6_starts_22 : decode cX6_starts 22 = .ok (.iconst 0, 1) := dk_3 (dk_at dksX6_starts_0 22 rfl rfl)
theorem dX6_starts_23 : decode cX6_starts 23 = .ok (.putfield 263, 3) := dk_181 1 7 (dk_at dksX6_starts_1 0 rfl rfl)
theorem dX6_starts_26 : decode cX6_starts 26 = .ok (.aload_n 0, 1) := dk_42 (dk_at dksX6_starts_1 3 rfl rfl)
theorem dX6_starts_27 : decode cX6_starts 27 = .ok (.iconst 0, 1) := dk_3 (dk_at dksX6_starts_1 4 rfl rfl)
theorem dX6_starts_28 : decode cX6_starts 28 = .ok (.putfield 266, 3) := dk_181 1 10 (dk_at dksX6_starts_1 5 rfl rfl)
theorem dX6_starts_31 : decode cX6_starts 31 = .ok (.return_, 1) := dk_177 (dk_at dksX6_starts_1 8 rfl rfl)
abbrev cX6_second : ByteArray := prog_23_method_52_code
def yX6_second : MethodName := ⟨RX6, "second", "()V"⟩
def dkwX6_second_2 : List UInt8 := [181, 1, 4, 42, 182, 1, 22, 167, 0, 16, 42, 89, 180, 1, 1, 42, 182, 0, 142, 96, 181, 1, 1, 177]
abbrev dktX6_second_2 : List UInt8 := dkwX6_second_2 ++ []
def dkwX6_second_1 : List UInt8 := [181, 1, 4, 42, 182, 1, 19, 42, 180, 1, 4, 16, 100, 161, 0, 21, 42, 89, 180, 1, 4, 16, 100, 100]
abbrev dktX6_second_1 : List UInt8 := dkwX6_second_1 ++ dktX6_second_2
def dkwX6_second_0 : List UInt8 := [42, 180, 1, 7, 158, 0, 8, 42, 182, 1, 13, 177, 42, 89, 180, 1, 4, 42, 182, 1, 16, 96]
abbrev dktX6_second_0 : List UInt8 := dkwX6_second_0 ++ dktX6_second_1
theorem dksX6_second_0 : cX6_second.data.toList.drop 0 = dktX6_second_0 := by decide +kernel
theorem dksX6_second_1 : cX6_second.data.toList.drop 22 = dktX6_second_1 := dk_seg dksX6_second_0 22 rfl rfl
theorem dksX6_second_2 : cX6_second.data.toList.drop 46 = dktX6_second_2 := dk_seg dksX6_second_1 24 rfl rfl
theorem dX6_second_0 : decode cX6_second 0 = .ok (.aload_n 0, 1) := dk_42 (dk_at dksX6_second_0 0 rfl rfl)
theorem dX6_second_1 : decode cX6_second 1 = .ok (.getfield 263, 3) := dk_180 1 7 (dk_at dksX6_second_0 1 rfl rfl)
theorem dX6_second_4 : decode cX6_second 4 = .ok (.ifCond .le 8, 3) := dk_158 0 8 (dk_at dksX6_second_0 4 rfl rfl)
theorem dX6_second_7 : decode cX6_second 7 = .ok (.aload_n 0, 1) := dk_42 (dk_at dksX6_second_0 7 rfl rfl)
theorem dX6_second_8 : decode cX6_second 8 = .ok (.invokevirtual 269, 3) := dk_182 1 13 (dk_at dksX6_second_0 8 rfl rfl)
theorem dX6_second_11 : decode cX6_second 11 = .ok (.return_, 1) := dk_177 (dk_at dksX6_second_0 11 rfl rfl)
theorem dX6_second_12 : decode cX6_second 12 = .ok (.aload_n 0, 1) := dk_42 (dk_at dksX6_second_0 12 rfl rfl)
theorem dX6_second_13 : decode cX6_second 13 = .ok (.dup, 1) := dk_89 (dk_at dksX6_second_0 13 rfl rfl)
theorem dX6_second_14 : decode cX6_second 14 = .ok (.getfield 260, 3) := dk_180 1 4 (dk_at dksX6_second_0 14 rfl rfl)
theorem dX6_second_17 : decode cX6_second 17 = .ok (.aload_n 0, 1) := dk_42 (dk_at dksX6_second_0 17 rfl rfl)
theorem dX6_second_18 : decode cX6_second 18 = .ok (.invokevirtual 272, 3) := dk_182 1 16 (dk_at dksX6_second_0 18 rfl rfl)
theorem dX6_second_21 : decode cX6_second 21 = .ok (.iadd, 1) := dk_96 (dk_at dksX6_second_0 21 rfl rfl)
theorem dX6_second_22 : decode cX6_second 22 = .ok (.putfield 260, 3) := dk_181 1 4 (dk_at dksX6_second_1 0 rfl rfl)
theorem dX6_second_25 : decode cX6_second 25 = .ok (.aload_n 0, 1) := dk_42 (dk_at dksX6_second_1 3 rfl rfl)
theorem dX6_second_26 : decode cX6_second 26 = .ok (.invokevirtual 275, 3) := dk_182 1 19 (dk_at dksX6_second_1 4 rfl rfl)
theorem dX6_second_29 : decode cX6_second 29 = .ok (.aload_n 0, 1) := dk_42 (dk_at dksX6_second_1 7 rfl rfl)
theorem dX6_second_30 : decode cX6_second 30 = .ok (.getfield 260, 3) := dk_180 1 4 (dk_at dksX6_second_1 8 rfl rfl)
theorem dX6_second_33 : decode cX6_second 33 = .ok (.bipush 100, 2) := dk_16 100 (dk_at dksX6_second_1 11 rfl rfl)
theorem dX6_second_35 : decode cX6_second 35 = .ok (.if_icmp .lt 21, 3) := dk_161 0 21 (dk_at dksX6_second_1 13 rfl rfl)
theorem dX6_second_38 : decode cX6_second 38 = .ok (.aload_n 0, 1) := dk_42 (dk_at dksX6_second_1 16 rfl rfl)
theorem dX6_second_39 : decode cX6_second 39 = .ok (.dup, 1) := dk_89 (dk_at dksX6_second_1 17 rfl rfl)
theorem dX6_second_40 : decode cX6_second 40 = .ok (.getfield 260, 3) := dk_180 1 4 (dk_at dksX6_second_1 18 rfl rfl)
theorem dX6_second_43 : decode cX6_second 43 = .ok (.bipush 100, 2) := dk_16 100 (dk_at dksX6_second_1 21 rfl rfl)
theorem dX6_second_45 : decode cX6_second 45 = .ok (.isub, 1) := dk_100 (dk_at dksX6_second_1 23 rfl rfl)
theorem dX6_second_46 : decode cX6_second 46 = .ok (.putfield 260, 3) := dk_181 1 4 (dk_at dksX6_second_2 0 rfl rfl)
theorem dX6_second_49 : decode cX6_second 49 = .ok (.aload_n 0, 1) := dk_42 (dk_at dksX6_second_2 3 rfl rfl)
theorem dX6_second_50 : decode cX6_second 50 = .ok (.invokevirtual 278, 3) := dk_182 1 22 (dk_at dksX6_second_2 4 rfl rfl)
theorem dX6_second_53 : decode cX6_second 53 = .ok (.goto 16, 3) := dk_167 0 16 (dk_at dksX6_second_2 7 rfl rfl)
theorem dX6_second_56 : decode cX6_second 56 = .ok (.aload_n 0, 1) := dk_42 (dk_at dksX6_second_2 10 rfl rfl)
theorem dX6_second_57 : decode cX6_second 57 = .ok (.dup, 1) := dk_89 (dk_at dksX6_second_2 11 rfl rfl)
theorem dX6_second_58 : decode cX6_second 58 = .ok (.getfield 257, 3) := dk_180 1 1 (dk_at dksX6_second_2 12 rfl rfl)
theorem dX6_second_61 : decode cX6_second 61 = .ok (.aload_n 0, 1) := dk_42 (dk_at dksX6_second_2 15 rfl rfl)
theorem dX6_second_62 : decode cX6_second 62 = .ok (.invokevirtual 142, 3) := dk_182 0 142 (dk_at dksX6_second_2 16 rfl rfl)
theorem dX6_second_65 : decode cX6_second 65 = .ok (.iadd, 1) := dk_96 (dk_at dksX6_second_2 19 rfl rfl)
theorem dX6_second_66 : decode cX6_second 66 = .ok (.putfield 257, 3) := dk_181 1 1 (dk_at dksX6_second_2 20 rfl rfl)
theorem dX6_second_69 : decode cX6_second 69 = .ok (.return_, 1) := dk_177 (dk_at dksX6_second_2 23 rfl rfl)
abbrev cX6_rests : ByteArray := prog_23_method_50_code
def yX6_rests : MethodName := ⟨RX6, "rests", "()V"⟩
def dkwX6_rests_2 : List UInt8 := [180, 1, 1, 4, 96, 181, 1, 1, 177]
abbrev dktX6_rests_2 : List UInt8 := dkwX6_rests_2 ++ []
def dkwX6_rests_1 : List UInt8 := [167, 0, 9, 42, 180, 0, 254, 5, 96, 181, 0, 254, 42, 180, 0, 236, 4, 160, 0, 13, 42, 89]
abbrev dktX6_rests_1 : List UInt8 := dkwX6_rests_1 ++ dktX6_rests_2
def dkwX6_rests_0 : List UInt8 := [42, 89, 180, 1, 7, 4, 100, 181, 1, 7, 42, 42, 180, 0, 254, 5, 96, 16, 60, 164, 0, 8, 16, 60]
abbrev dktX6_rests_0 : List UInt8 := dkwX6_rests_0 ++ dktX6_rests_1
theorem dksX6_rests_0 : cX6_rests.data.toList.drop 0 = dktX6_rests_0 := by decide +kernel
theorem dksX6_rests_1 : cX6_rests.data.toList.drop 24 = dktX6_rests_1 := dk_seg dksX6_rests_0 24 rfl rfl
theorem dksX6_rests_2 : cX6_rests.data.toList.drop 46 = dktX6_rests_2 := dk_seg dksX6_rests_1 22 rfl rfl
theorem dX6_rests_0 : decode cX6_rests 0 = .ok (.aload_n 0, 1) := dk_42 (dk_at dksX6_rests_0 0 rfl rfl)
theorem dX6_rests_1 : decode cX6_rests 1 = .ok (.dup, 1) := dk_89 (dk_at dksX6_rests_0 1 rfl rfl)
theorem dX6_rests_2 : decode cX6_rests 2 = .ok (.getfield 263, 3) := dk_180 1 7 (dk_at dksX6_rests_0 2 rfl rfl)
theorem dX6_rests_5 : decode cX6_rests 5 = .ok (.iconst 1, 1) := dk_4 (dk_at dksX6_rests_0 5 rfl rfl)
theorem dX6_rests_6 : decode cX6_rests 6 = .ok (.isub, 1) := dk_100 (dk_at dksX6_rests_0 6 rfl rfl)
theorem dX6_rests_7 : decode cX6_rests 7 = .ok (.putfield 263, 3) := dk_181 1 7 (dk_at dksX6_rests_0 7 rfl rfl)
theorem dX6_rests_10 : decode cX6_rests 10 = .ok (.aload_n 0, 1) := dk_42 (dk_at dksX6_rests_0 10 rfl rfl)
theorem dX6_rests_11 : decode cX6_rests 11 = .ok (.aload_n 0, 1) := dk_42 (dk_at dksX6_rests_0 11 rfl rfl)
theorem dX6_rests_12 : decode cX6_rests 12 = .ok (.getfield 254, 3) := dk_180 0 254 (dk_at dksX6_rests_0 12 rfl rfl)
theorem dX6_rests_15 : decode cX6_rests 15 = .ok (.iconst 2, 1) := dk_5 (dk_at dksX6_rests_0 15 rfl rfl)
theorem dX6_rests_16 : decode cX6_rests 16 = .ok (.iadd, 1) := dk_96 (dk_at dksX6_rests_0 16 rfl rfl)
theorem dX6_rests_17 : decode cX6_rests 17 = .ok (.bipush 60, 2) := dk_16 60 (dk_at dksX6_rests_0 17 rfl rfl)
theorem dX6_rests_19 : decode cX6_rests 19 = .ok (.if_icmp .le 8, 3) := dk_164 0 8 (dk_at dksX6_rests_0 19 rfl rfl)
theorem dX6_rests_22 : decode cX6_rests 22 = .ok (.bipush 60, 2) := dk_16 60 (dk_at dksX6_rests_0 22 rfl rfl)
theorem dX6_rests_24 : decode cX6_rests 24 = .ok (.goto 9, 3) := dk_167 0 9 (dk_at dksX6_rests_1 0 rfl rfl)
theorem dX6_rests_27 : decode cX6_rests 27 = .ok (.aload_n 0, 1) := dk_42 (dk_at dksX6_rests_1 3 rfl rfl)
theorem dX6_rests_28 : decode cX6_rests 28 = .ok (.getfield 254, 3) := dk_180 0 254 (dk_at dksX6_rests_1 4 rfl rfl)
theorem dX6_rests_31 : decode cX6_rests 31 = .ok (.iconst 2, 1) := dk_5 (dk_at dksX6_rests_1 7 rfl rfl)
theorem dX6_rests_32 : decode cX6_rests 32 = .ok (.iadd, 1) := dk_96 (dk_at dksX6_rests_1 8 rfl rfl)
theorem dX6_rests_33 : decode cX6_rests 33 = .ok (.putfield 254, 3) := dk_181 0 254 (dk_at dksX6_rests_1 9 rfl rfl)
theorem dX6_rests_36 : decode cX6_rests 36 = .ok (.aload_n 0, 1) := dk_42 (dk_at dksX6_rests_1 12 rfl rfl)
theorem dX6_rests_37 : decode cX6_rests 37 = .ok (.getfield 236, 3) := dk_180 0 236 (dk_at dksX6_rests_1 13 rfl rfl)
theorem dX6_rests_40 : decode cX6_rests 40 = .ok (.iconst 1, 1) := dk_4 (dk_at dksX6_rests_1 16 rfl rfl)
theorem dX6_rests_41 : decode cX6_rests 41 = .ok (.if_icmp .ne 13, 3) := dk_160 0 13 (dk_at dksX6_rests_1 17 rfl rfl)
theorem dX6_rests_44 : decode cX6_rests 44 = .ok (.aload_n 0, 1) := dk_42 (dk_at dksX6_rests_1 20 rfl rfl)
theorem dX6_rests_45 : decode cX6_rests 45 = .ok (.dup, 1) := dk_89 (dk_at dksX6_rests_1 21 rfl rfl)
theorem dX6_rests_46 : decode cX6_rests 46 = .ok (.getfield 257, 3) := dk_180 1 1 (dk_at dksX6_rests_2 0 rfl rfl)
theorem dX6_rests_49 : decode cX6_rests 49 = .ok (.iconst 1, 1) := dk_4 (dk_at dksX6_rests_2 3 rfl rfl)
theorem dX6_rests_50 : decode cX6_rests 50 = .ok (.iadd, 1) := dk_96 (dk_at dksX6_rests_2 4 rfl rfl)
theorem dX6_rests_51 : decode cX6_rests 51 = .ok (.putfield 257, 3) := dk_181 1 1 (dk_at dksX6_rests_2 5 rfl rfl)
theorem dX6_rests_54 : decode cX6_rests 54 = .ok (.return_, 1) := dk_177 (dk_at dksX6_rests_2 8 rfl rfl)
abbrev cX6_riskNow : ByteArray := prog_23_method_47_code
def yX6_riskNow : MethodName := ⟨RX6, "riskNow", "()I"⟩
def dkwX6_riskNow_0 : List UInt8 := [42, 182, 0, 145, 42, 180, 0, 254, 42, 182, 0, 138, 162, 0, 8, 16, 20, 167, 0, 4, 3, 96, 172]
abbrev dktX6_riskNow_0 : List UInt8 := dkwX6_riskNow_0 ++ []
theorem dksX6_riskNow_0 : cX6_riskNow.data.toList.drop 0 = dktX6_riskNow_0 := by decide +kernel
theorem dX6_riskNow_0 : decode cX6_riskNow 0 = .ok (.aload_n 0, 1) := dk_42 (dk_at dksX6_riskNow_0 0 rfl rfl)
theorem dX6_riskNow_1 : decode cX6_riskNow 1 = .ok (.invokevirtual 145, 3) := dk_182 0 145 (dk_at dksX6_riskNow_0 1 rfl rfl)
theorem dX6_riskNow_4 : decode cX6_riskNow 4 = .ok (.aload_n 0, 1) := dk_42 (dk_at dksX6_riskNow_0 4 rfl rfl)
theorem dX6_riskNow_5 : decode cX6_riskNow 5 = .ok (.getfield 254, 3) := dk_180 0 254 (dk_at dksX6_riskNow_0 5 rfl rfl)
theorem dX6_riskNow_8 : decode cX6_riskNow 8 = .ok (.aload_n 0, 1) := dk_42 (dk_at dksX6_riskNow_0 8 rfl rfl)
theorem dX6_riskNow_9 : decode cX6_riskNow 9 = .ok (.invokevirtual 138, 3) := dk_182 0 138 (dk_at dksX6_riskNow_0 9 rfl rfl)
theorem dX6_riskNow_12 : decode cX6_riskNow 12 = .ok (.if_icmp .ge 8, 3) := dk_162 0 8 (dk_at dksX6_riskNow_0 12 rfl rfl)
theorem dX6_riskNow_15 : decode cX6_riskNow 15 = .ok (.bipush 20, 2) := dk_16 20 (dk_at dksX6_riskNow_0 15 rfl rfl)
theorem dX6_riskNow_17 : decode cX6_riskNow 17 = .ok (.goto 4, 3) := dk_167 0 4 (dk_at dksX6_riskNow_0 17 rfl rfl)
theorem dX6_riskNow_20 : decode cX6_riskNow 20 = .ok (.iconst 0, 1) := dk_3 (dk_at dksX6_riskNow_0 20 rfl rfl)
theorem dX6_riskNow_21 : decode cX6_riskNow 21 = .ok (.iadd, 1) := dk_96 (dk_at dksX6_riskNow_0 21 rfl rfl)
theorem dX6_riskNow_22 : decode cX6_riskNow 22 = .ok (.ireturn, 1) := dk_172 (dk_at dksX6_riskNow_0 22 rfl rfl)
abbrev cX6_puffs : ByteArray := prog_23_method_51_code
def yX6_puffs : MethodName := ⟨RX6, "puffs", "()V"⟩
def dkwX6_puffs_2 : List UInt8 := [180, 0, 254, 181, 0, 254, 177]
abbrev dktX6_puffs_2 : List UInt8 := dkwX6_puffs_2 ++ []
def dkwX6_puffs_1 : List UInt8 := [3, 4, 96, 181, 0, 254, 42, 42, 180, 0, 254, 16, 60, 164, 0, 8, 16, 60, 167, 0, 7, 42]
abbrev dktX6_puffs_1 : List UInt8 := dkwX6_puffs_1 ++ dktX6_puffs_2
def dkwX6_puffs_0 : List UInt8 := [42, 42, 180, 0, 254, 42, 182, 0, 138, 164, 0, 15, 42, 180, 0, 254, 42, 182, 0, 138, 100, 167, 0, 4]
abbrev dktX6_puffs_0 : List UInt8 := dkwX6_puffs_0 ++ dktX6_puffs_1
theorem dksX6_puffs_0 : cX6_puffs.data.toList.drop 0 = dktX6_puffs_0 := by decide +kernel
theorem dksX6_puffs_1 : cX6_puffs.data.toList.drop 24 = dktX6_puffs_1 := dk_seg dksX6_puffs_0 24 rfl rfl
theorem dksX6_puffs_2 : cX6_puffs.data.toList.drop 46 = dktX6_puffs_2 := dk_seg dksX6_puffs_1 22 rfl rfl
theorem dX6_puffs_0 : decode cX6_puffs 0 = .ok (.aload_n 0, 1) := dk_42 (dk_at dksX6_puffs_0 0 rfl rfl)
theorem dX6_puffs_1 : decode cX6_puffs 1 = .ok (.aload_n 0, 1) := dk_42 (dk_at dksX6_puffs_0 1 rfl rfl)
theorem dX6_puffs_2 : decode cX6_puffs 2 = .ok (.getfield 254, 3) := dk_180 0 254 (dk_at dksX6_puffs_0 2 rfl rfl)
theorem dX6_puffs_5 : decode cX6_puffs 5 = .ok (.aload_n 0, 1) := dk_42 (dk_at dksX6_puffs_0 5 rfl rfl)
theorem dX6_puffs_6 : decode cX6_puffs 6 = .ok (.invokevirtual 138, 3) := dk_182 0 138 (dk_at dksX6_puffs_0 6 rfl rfl)
theorem dX6_puffs_9 : decode cX6_puffs 9 = .ok (.if_icmp .le 15, 3) := dk_164 0 15 (dk_at dksX6_puffs_0 9 rfl rfl)
theorem dX6_puffs_12 : decode cX6_puffs 12 = .ok (.aload_n 0, 1) := dk_42 (dk_at dksX6_puffs_0 12 rfl rfl)
theorem dX6_puffs_13 : decode cX6_puffs 13 = .ok (.getfield 254, 3) := dk_180 0 254 (dk_at dksX6_puffs_0 13 rfl rfl)
theorem dX6_puffs_16 : decode cX6_puffs 16 = .ok (.aload_n 0, 1) := dk_42 (dk_at dksX6_puffs_0 16 rfl rfl)
theorem dX6_puffs_17 : decode cX6_puffs 17 = .ok (.invokevirtual 138, 3) := dk_182 0 138 (dk_at dksX6_puffs_0 17 rfl rfl)
theorem dX6_puffs_20 : decode cX6_puffs 20 = .ok (.isub, 1) := dk_100 (dk_at dksX6_puffs_0 20 rfl rfl)
theorem dX6_puffs_21 : decode cX6_puffs 21 = .ok (.goto 4, 3) := dk_167 0 4 (dk_at dksX6_puffs_0 21 rfl rfl)
theorem dX6_puffs_24 : decode cX6_puffs 24 = .ok (.iconst 0, 1) := dk_3 (dk_at dksX6_puffs_1 0 rfl rfl)
theorem dX6_puffs_25 : decode cX6_puffs 25 = .ok (.iconst 1, 1) := dk_4 (dk_at dksX6_puffs_1 1 rfl rfl)
theorem dX6_puffs_26 : decode cX6_puffs 26 = .ok (.iadd, 1) := dk_96 (dk_at dksX6_puffs_1 2 rfl rfl)
theorem dX6_puffs_27 : decode cX6_puffs 27 = .ok (.putfield 254, 3) := dk_181 0 254 (dk_at dksX6_puffs_1 3 rfl rfl)
theorem dX6_puffs_30 : decode cX6_puffs 30 = .ok (.aload_n 0, 1) := dk_42 (dk_at dksX6_puffs_1 6 rfl rfl)
theorem dX6_puffs_31 : decode cX6_puffs 31 = .ok (.aload_n 0, 1) := dk_42 (dk_at dksX6_puffs_1 7 rfl rfl)
theorem dX6_puffs_32 : decode cX6_puffs 32 = .ok (.getfield 254, 3) := dk_180 0 254 (dk_at dksX6_puffs_1 8 rfl rfl)
theorem dX6_puffs_35 : decode cX6_puffs 35 = .ok (.bipush 60, 2) := dk_16 60 (dk_at dksX6_puffs_1 11 rfl rfl)
theorem dX6_puffs_37 : decode cX6_puffs 37 = .ok (.if_icmp .le 8, 3) := dk_164 0 8 (dk_at dksX6_puffs_1 13 rfl rfl)
theorem dX6_puffs_40 : decode cX6_puffs 40 = .ok (.bipush 60, 2) := dk_16 60 (dk_at dksX6_puffs_1 16 rfl rfl)
theorem dX6_puffs_42 : decode cX6_puffs 42 = .ok (.goto 7, 3) := dk_167 0 7 (dk_at dksX6_puffs_1 18 rfl rfl)
theorem dX6_puffs_45 : decode cX6_puffs 45 = .ok (.aload_n 0, 1) := dk_42 (dk_at dksX6_puffs_1 21 rfl rfl)
theorem dX6_puffs_46 : decode cX6_puffs 46 = .ok (.getfield 254, 3) := dk_180 0 254 (dk_at dksX6_puffs_2 0 rfl rfl)
theorem dX6_puffs_49 : decode cX6_puffs 49 = .ok (.putfield 254, 3) := dk_181 0 254 (dk_at dksX6_puffs_2 3 rfl rfl)
theorem dX6_puffs_52 : decode cX6_puffs 52 = .ok (.return_, 1) := dk_177 (dk_at dksX6_puffs_2 6 rfl rfl)
abbrev cX6_falls : ByteArray := prog_23_method_49_code
def yX6_falls : MethodName := ⟨RX6, "falls", "()V"⟩
def dkwX6_falls_0 : List UInt8 := [42, 42, 180, 0, 13, 181, 1, 7, 42, 89, 180, 1, 10, 4, 96, 181, 1, 10, 177]
abbrev dktX6_falls_0 : List UInt8 := dkwX6_falls_0 ++ []
theorem dksX6_falls_0 : cX6_falls.data.toList.drop 0 = dktX6_falls_0 := by decide +kernel
theorem dX6_falls_0 : decode cX6_falls 0 = .ok (.aload_n 0, 1) := dk_42 (dk_at dksX6_falls_0 0 rfl rfl)
theorem dX6_falls_1 : decode cX6_falls 1 = .ok (.aload_n 0, 1) := dk_42 (dk_at dksX6_falls_0 1 rfl rfl)
theorem dX6_falls_2 : decode cX6_falls 2 = .ok (.getfield 13, 3) := dk_180 0 13 (dk_at dksX6_falls_0 2 rfl rfl)
theorem dX6_falls_5 : decode cX6_falls 5 = .ok (.putfield 263, 3) := dk_181 1 7 (dk_at dksX6_falls_0 5 rfl rfl)
theorem dX6_falls_8 : decode cX6_falls 8 = .ok (.aload_n 0, 1) := dk_42 (dk_at dksX6_falls_0 8 rfl rfl)
theorem dX6_falls_9 : decode cX6_falls 9 = .ok (.dup, 1) := dk_89 (dk_at dksX6_falls_0 9 rfl rfl)
theorem dX6_falls_10 : decode cX6_falls 10 = .ok (.getfield 266, 3) := dk_180 1 10 (dk_at dksX6_falls_0 10 rfl rfl)
theorem dX6_falls_13 : decode cX6_falls 13 = .ok (.iconst 1, 1) := dk_4 (dk_at dksX6_falls_0 13 rfl rfl)
theorem dX6_falls_14 : decode cX6_falls 14 = .ok (.iadd, 1) := dk_96 (dk_at dksX6_falls_0 14 rfl rfl)
theorem dX6_falls_15 : decode cX6_falls 15 = .ok (.putfield 266, 3) := dk_181 1 10 (dk_at dksX6_falls_0 15 rfl rfl)
theorem dX6_falls_18 : decode cX6_falls 18 = .ok (.return_, 1) := dk_177 (dk_at dksX6_falls_0 18 rfl rfl)
abbrev cX6_comesIn : ByteArray := prog_23_method_61_code
def yX6_comesIn : MethodName := ⟨RX6, "comesIn", "(I)I"⟩
def dkwX6_comesIn_0 : List UInt8 := [42, 27, 182, 0, 131, 153, 0, 11, 42, 27, 182, 1, 37, 167, 0, 8, 42, 2, 182, 0, 127, 172]
abbrev dktX6_comesIn_0 : List UInt8 := dkwX6_comesIn_0 ++ []
theorem dksX6_comesIn_0 : cX6_comesIn.data.toList.drop 0 = dktX6_comesIn_0 := by decide +kernel
theorem dX6_comesIn_0 : decode cX6_comesIn 0 = .ok (.aload_n 0, 1) := dk_42 (dk_at dksX6_comesIn_0 0 rfl rfl)
theorem dX6_comesIn_1 : decode cX6_comesIn 1 = .ok (.iload_n 1, 1) := dk_27 (dk_at dksX6_comesIn_0 1 rfl rfl)
theorem dX6_comesIn_2 : decode cX6_comesIn 2 = .ok (.invokevirtual 131, 3) := dk_182 0 131 (dk_at dksX6_comesIn_0 2 rfl rfl)
theorem dX6_comesIn_5 : decode cX6_comesIn 5 = .ok (.ifCond .eq 11, 3) := dk_153 0 11 (dk_at dksX6_comesIn_0 5 rfl rfl)
theorem dX6_comesIn_8 : decode cX6_comesIn 8 = .ok (.aload_n 0, 1) := dk_42 (dk_at dksX6_comesIn_0 8 rfl rfl)
theorem dX6_comesIn_9 : decode cX6_comesIn 9 = .ok (.iload_n 1, 1) := dk_27 (dk_at dksX6_comesIn_0 9 rfl rfl)
theorem dX6_comesIn_10 : decode cX6_comesIn 10 = .ok (.invokevirtual 293, 3) := dk_182 1 37 (dk_at dksX6_comesIn_0 10 rfl rfl)
theorem dX6_comesIn_13 : decode cX6_comesIn 13 = .ok (.goto 8, 3) := dk_167 0 8 (dk_at dksX6_comesIn_0 13 rfl rfl)
theorem dX6_comesIn_16 : decode cX6_comesIn 16 = .ok (.aload_n 0, 1) := dk_42 (dk_at dksX6_comesIn_0 16 rfl rfl)
theorem dX6_comesIn_17 : decode cX6_comesIn 17 = .ok (.iconst (-1), 1) := dk_2 (dk_at dksX6_comesIn_0 17 rfl rfl)
theorem dX6_comesIn_18 : decode cX6_comesIn 18 = .ok (.invokevirtual 127, 3) := dk_182 0 127 (dk_at dksX6_comesIn_0 18 rfl rfl)
theorem dX6_comesIn_21 : decode cX6_comesIn 21 = .ok (.ireturn, 1) := dk_172 (dk_at dksX6_comesIn_0 21 rfl rfl)
abbrev cX6_inOf : ByteArray := prog_23_method_55_code
def yX6_inOf : MethodName := ⟨RX6, "inOf", "(I)I"⟩
def dkwX6_inOf_0 : List UInt8 := [42, 27, 182, 0, 134, 42, 182, 1, 34, 172]
abbrev dktX6_inOf_0 : List UInt8 := dkwX6_inOf_0 ++ []
theorem dksX6_inOf_0 : cX6_inOf.data.toList.drop 0 = dktX6_inOf_0 := by decide +kernel
theorem dX6_inOf_0 : decode cX6_inOf 0 = .ok (.aload_n 0, 1) := dk_42 (dk_at dksX6_inOf_0 0 rfl rfl)
theorem dX6_inOf_1 : decode cX6_inOf 1 = .ok (.iload_n 1, 1) := dk_27 (dk_at dksX6_inOf_0 1 rfl rfl)
theorem dX6_inOf_2 : decode cX6_inOf 2 = .ok (.invokevirtual 134, 3) := dk_182 0 134 (dk_at dksX6_inOf_0 2 rfl rfl)
theorem dX6_inOf_5 : decode cX6_inOf 5 = .ok (.aload_n 0, 1) := dk_42 (dk_at dksX6_inOf_0 5 rfl rfl)
theorem dX6_inOf_6 : decode cX6_inOf 6 = .ok (.invokevirtual 290, 3) := dk_182 1 34 (dk_at dksX6_inOf_0 6 rfl rfl)
theorem dX6_inOf_9 : decode cX6_inOf 9 = .ok (.ireturn, 1) := dk_172 (dk_at dksX6_inOf_0 9 rfl rfl)
abbrev cX6_in : ByteArray := prog_23_method_54_code
def yX6_in : MethodName := ⟨RX6, "in", "()I"⟩
def dkwX6_in_2 : List UInt8 := [167, 0, 8, 42, 27, 182, 1, 31, 172]
abbrev dktX6_in_2 : List UInt8 := dkwX6_in_2 ++ []
def dkwX6_in_1 : List UInt8 := [42, 182, 1, 28, 132, 1, 1, 167, 255, 231, 42, 180, 1, 1, 42, 180, 0, 7, 162, 0, 9, 17, 3, 231]
abbrev dktX6_in_1 : List UInt8 := dkwX6_in_1 ++ dktX6_in_2
def dkwX6_in_0 : List UInt8 := [42, 182, 1, 25, 3, 60, 42, 180, 1, 1, 42, 180, 0, 7, 162, 0, 20, 27, 17, 3, 231, 162, 0, 13]
abbrev dktX6_in_0 : List UInt8 := dkwX6_in_0 ++ dktX6_in_1
theorem dksX6_in_0 : cX6_in.data.toList.drop 0 = dktX6_in_0 := by decide +kernel
theorem dksX6_in_1 : cX6_in.data.toList.drop 24 = dktX6_in_1 := dk_seg dksX6_in_0 24 rfl rfl
theorem dksX6_in_2 : cX6_in.data.toList.drop 48 = dktX6_in_2 := dk_seg dksX6_in_1 24 rfl rfl
theorem dX6_in_0 : decode cX6_in 0 = .ok (.aload_n 0, 1) := dk_42 (dk_at dksX6_in_0 0 rfl rfl)
theorem dX6_in_1 : decode cX6_in 1 = .ok (.invokevirtual 281, 3) := dk_182 1 25 (dk_at dksX6_in_0 1 rfl rfl)
theorem dX6_in_4 : decode cX6_in 4 = .ok (.iconst 0, 1) := dk_3 (dk_at dksX6_in_0 4 rfl rfl)
theorem dX6_in_5 : decode cX6_in 5 = .ok (.istore_n 1, 1) := dk_60 (dk_at dksX6_in_0 5 rfl rfl)
theorem dX6_in_6 : decode cX6_in 6 = .ok (.aload_n 0, 1) := dk_42 (dk_at dksX6_in_0 6 rfl rfl)
theorem dX6_in_7 : decode cX6_in 7 = .ok (.getfield 257, 3) := dk_180 1 1 (dk_at dksX6_in_0 7 rfl rfl)
theorem dX6_in_10 : decode cX6_in 10 = .ok (.aload_n 0, 1) := dk_42 (dk_at dksX6_in_0 10 rfl rfl)
theorem dX6_in_11 : decode cX6_in 11 = .ok (.getfield 7, 3) := dk_180 0 7 (dk_at dksX6_in_0 11 rfl rfl)
theorem dX6_in_14 : decode cX6_in 14 = .ok (.if_icmp .ge 20, 3) := dk_162 0 20 (dk_at dksX6_in_0 14 rfl rfl)
theorem dX6_in_17 : decode cX6_in 17 = .ok (.iload_n 1, 1) := dk_27 (dk_at dksX6_in_0 17 rfl rfl)
theorem dX6_in_18 : decode cX6_in 18 = .ok (.sipush 999, 3) := dk_17 3 231 (dk_at dksX6_in_0 18 rfl rfl)
theorem dX6_in_21 : decode cX6_in 21 = .ok (.if_icmp .ge 13, 3) := dk_162 0 13 (dk_at dksX6_in_0 21 rfl rfl)
theorem dX6_in_24 : decode cX6_in 24 = .ok (.aload_n 0, 1) := dk_42 (dk_at dksX6_in_1 0 rfl rfl)
theorem dX6_in_25 : decode cX6_in 25 = .ok (.invokevirtual 284, 3) := dk_182 1 28 (dk_at dksX6_in_1 1 rfl rfl)
theorem dX6_in_28 : decode cX6_in 28 = .ok (.iinc 1 1, 3) := dk_132 1 1 (dk_at dksX6_in_1 4 rfl rfl)
theorem dX6_in_31 : decode cX6_in 31 = .ok (.goto (-25), 3) := dk_167 255 231 (dk_at dksX6_in_1 7 rfl rfl)
theorem dX6_in_34 : decode cX6_in 34 = .ok (.aload_n 0, 1) := dk_42 (dk_at dksX6_in_1 10 rfl rfl)
theorem dX6_in_35 : decode cX6_in 35 = .ok (.getfield 257, 3) := dk_180 1 1 (dk_at dksX6_in_1 11 rfl rfl)
theorem dX6_in_38 : decode cX6_in 38 = .ok (.aload_n 0, 1) := dk_42 (dk_at dksX6_in_1 14 rfl rfl)
theorem dX6_in_39 : decode cX6_in 39 = .ok (.getfield 7, 3) := dk_180 0 7 (dk_at dksX6_in_1 15 rfl rfl)
theorem dX6_in_42 : decode cX6_in 42 = .ok (.if_icmp .ge 9, 3) := dk_162 0 9 (dk_at dksX6_in_1 18 rfl rfl)
theorem dX6_in_45 : decode cX6_in 45 = .ok (.sipush 999, 3) := dk_17 3 231 (dk_at dksX6_in_1 21 rfl rfl)
theorem dX6_in_48 : decode cX6_in 48 = .ok (.goto 8, 3) := dk_167 0 8 (dk_at dksX6_in_2 0 rfl rfl)
theorem dX6_in_51 : decode cX6_in 51 = .ok (.aload_n 0, 1) := dk_42 (dk_at dksX6_in_2 3 rfl rfl)
theorem dX6_in_52 : decode cX6_in 52 = .ok (.iload_n 1, 1) := dk_27 (dk_at dksX6_in_2 4 rfl rfl)
theorem dX6_in_53 : decode cX6_in 53 = .ok (.invokevirtual 287, 3) := dk_182 1 31 (dk_at dksX6_in_2 5 rfl rfl)
theorem dX6_in_56 : decode cX6_in 56 = .ok (.ireturn, 1) := dk_172 (dk_at dksX6_in_2 8 rfl rfl)
abbrev cX6_withRope : ByteArray := prog_23_method_53_code
def yX6_withRope : MethodName := ⟨RX6, "withRope", "(I)I"⟩
def dkwX6_withRope_1 : List UInt8 := [3, 96, 61, 28, 17, 3, 231, 164, 0, 9, 17, 3, 231, 167, 0, 4, 28, 172]
abbrev dktX6_withRope_1 : List UInt8 := dkwX6_withRope_1 ++ []
def dkwX6_withRope_0 : List UInt8 := [27, 42, 180, 0, 16, 42, 180, 0, 230, 164, 0, 15, 42, 180, 0, 16, 42, 180, 0, 230, 100, 167, 0, 4]
abbrev dktX6_withRope_0 : List UInt8 := dkwX6_withRope_0 ++ dktX6_withRope_1
theorem dksX6_withRope_0 : cX6_withRope.data.toList.drop 0 = dktX6_withRope_0 := by decide +kernel
theorem dksX6_withRope_1 : cX6_withRope.data.toList.drop 24 = dktX6_withRope_1 := dk_seg dksX6_withRope_0 24 rfl rfl
theorem dX6_withRope_0 : decode cX6_withRope 0 = .ok (.iload_n 1, 1) := dk_27 (dk_at dksX6_withRope_0 0 rfl rfl)
theorem dX6_withRope_1 : decode cX6_withRope 1 = .ok (.aload_n 0, 1) := dk_42 (dk_at dksX6_withRope_0 1 rfl rfl)
theorem dX6_withRope_2 : decode cX6_withRope 2 = .ok (.getfield 16, 3) := dk_180 0 16 (dk_at dksX6_withRope_0 2 rfl rfl)
theorem dX6_withRope_5 : decode cX6_withRope 5 = .ok (.aload_n 0, 1) := dk_42 (dk_at dksX6_withRope_0 5 rfl rfl)
theorem dX6_withRope_6 : decode cX6_withRope 6 = .ok (.getfield 230, 3) := dk_180 0 230 (dk_at dksX6_withRope_0 6 rfl rfl)
theorem dX6_withRope_9 : decode cX6_withRope 9 = .ok (.if_icmp .le 15, 3) := dk_164 0 15 (dk_at dksX6_withRope_0 9 rfl rfl)
theorem dX6_withRope_12 : decode cX6_withRope 12 = .ok (.aload_n 0, 1) := dk_42 (dk_at dksX6_withRope_0 12 rfl rfl)
theorem dX6_withRope_13 : decode cX6_withRope 13 = .ok (.getfield 16, 3) := dk_180 0 16 (dk_at dksX6_withRope_0 13 rfl rfl)
theorem dX6_withRope_16 : decode cX6_withRope 16 = .ok (.aload_n 0, 1) := dk_42 (dk_at dksX6_withRope_0 16 rfl rfl)
theorem dX6_withRope_17 : decode cX6_withRope 17 = .ok (.getfield 230, 3) := dk_180 0 230 (dk_at dksX6_withRope_0 17 rfl rfl)
theorem dX6_withRope_20 : decode cX6_withRope 20 = .ok (.isub, 1) := dk_100 (dk_at dksX6_withRope_0 20 rfl rfl)
theorem dX6_withRope_21 : decode cX6_withRope 21 = .ok (.goto 4, 3) := dk_167 0 4 (dk_at dksX6_withRope_0 21 rfl rfl)
theorem dX6_withRope_24 : decode cX6_withRope 24 = .ok (.iconst 0, 1) := dk_3 (dk_at dksX6_withRope_1 0 rfl rfl)
theorem dX6_withRope_25 : decode cX6_withRope 25 = .ok (.iadd, 1) := dk_96 (dk_at dksX6_withRope_1 1 rfl rfl)
theorem dX6_withRope_26 : decode cX6_withRope 26 = .ok (.istore_n 2, 1) := dk_61 (dk_at dksX6_withRope_1 2 rfl rfl)
theorem dX6_withRope_27 : decode cX6_withRope 27 = .ok (.iload_n 2, 1) := dk_28 (dk_at dksX6_withRope_1 3 rfl rfl)
theorem dX6_withRope_28 : decode cX6_withRope 28 = .ok (.sipush 999, 3) := dk_17 3 231 (dk_at dksX6_withRope_1 4 rfl rfl)
theorem dX6_withRope_31 : decode cX6_withRope 31 = .ok (.if_icmp .le 9, 3) := dk_164 0 9 (dk_at dksX6_withRope_1 7 rfl rfl)
theorem dX6_withRope_34 : decode cX6_withRope 34 = .ok (.sipush 999, 3) := dk_17 3 231 (dk_at dksX6_withRope_1 10 rfl rfl)
theorem dX6_withRope_37 : decode cX6_withRope 37 = .ok (.goto 4, 3) := dk_167 0 4 (dk_at dksX6_withRope_1 13 rfl rfl)
theorem dX6_withRope_40 : decode cX6_withRope 40 = .ok (.iload_n 2, 1) := dk_28 (dk_at dksX6_withRope_1 16 rfl rfl)
theorem dX6_withRope_41 : decode cX6_withRope 41 = .ok (.ireturn, 1) := dk_172 (dk_at dksX6_withRope_1 17 rfl rfl)
abbrev cX6_wins : ByteArray := prog_23_method_63_code
def yX6_wins : MethodName := ⟨RX6, "wins", "(I)I"⟩
def dkwX6_wins_4 : List UInt8 := [3, 167, 0, 10, 29, 42, 28, 182, 1, 37, 100, 172]
abbrev dktX6_wins_4 : List UInt8 := dkwX6_wins_4 ++ []
def dkwX6_wins_3 : List UInt8 := [167, 0, 4, 29, 62, 132, 4, 1, 167, 255, 209, 27, 154, 0, 7, 28, 167, 0, 19, 29, 2, 160, 0, 7]
abbrev dktX6_wins_3 : List UInt8 := dkwX6_wins_3 ++ dktX6_wins_4
def dkwX6_wins_2 : List UInt8 := [167, 0, 29, 42, 21, 4, 182, 1, 37, 54, 5, 29, 2, 159, 0, 9, 21, 5, 29, 162, 0, 8, 21, 5]
abbrev dktX6_wins_2 : List UInt8 := dkwX6_wins_2 ++ dktX6_wins_3
def dkwX6_wins_1 : List UInt8 := [182, 1, 40, 61, 2, 62, 3, 54, 4, 21, 4, 42, 180, 0, 117, 162, 0, 44, 21, 4, 28, 160, 0, 6]
abbrev dktX6_wins_1 : List UInt8 := dkwX6_wins_1 ++ dktX6_wins_2
def dkwX6_wins_0 : List UInt8 := [27, 155, 0, 15, 27, 4, 163, 0, 10, 42, 180, 0, 117, 154, 0, 10, 42, 16, 251, 182, 0, 127, 172, 42]
abbrev dktX6_wins_0 : List UInt8 := dkwX6_wins_0 ++ dktX6_wins_1
theorem dksX6_wins_0 : cX6_wins.data.toList.drop 0 = dktX6_wins_0 := by decide +kernel
theorem dksX6_wins_1 : cX6_wins.data.toList.drop 24 = dktX6_wins_1 := dk_seg dksX6_wins_0 24 rfl rfl
theorem dksX6_wins_2 : cX6_wins.data.toList.drop 48 = dktX6_wins_2 := dk_seg dksX6_wins_1 24 rfl rfl
theorem dksX6_wins_3 : cX6_wins.data.toList.drop 72 = dktX6_wins_3 := dk_seg dksX6_wins_2 24 rfl rfl
theorem dksX6_wins_4 : cX6_wins.data.toList.drop 96 = dktX6_wins_4 := dk_seg dksX6_wins_3 24 rfl rfl
theorem dX6_wins_0 : decode cX6_wins 0 = .ok (.iload_n 1, 1) := dk_27 (dk_at dksX6_wins_0 0 rfl rfl)
theorem dX6_wins_1 : decode cX6_wins 1 = .ok (.ifCond .lt 15, 3) := dk_155 0 15 (dk_at dksX6_wins_0 1 rfl rfl)
theorem dX6_wins_4 : decode cX6_wins 4 = .ok (.iload_n 1, 1) := dk_27 (dk_at dksX6_wins_0 4 rfl rfl)
theorem dX6_wins_5 : decode cX6_wins 5 = .ok (.iconst 1, 1) := dk_4 (dk_at dksX6_wins_0 5 rfl rfl)
theorem dX6_wins_6 : decode cX6_wins 6 = .ok (.if_icmp .gt 10, 3) := dk_163 0 10 (dk_at dksX6_wins_0 6 rfl rfl)
theorem dX6_wins_9 : decode cX6_wins 9 = .ok (.aload_n 0, 1) := dk_42 (dk_at dksX6_wins_0 9 rfl rfl)
theorem dX6_wins_10 : decode cX6_wins 10 = .ok (.getfield 117, 3) := dk_180 0 117 (dk_at dksX6_wins_0 10 rfl rfl)
theorem dX6_wins_13 : decode cX6_wins 13 = .ok (.ifCond .ne 10, 3) := dk_154 0 10 (dk_at dksX6_wins_0 13 rfl rfl)
theorem dX6_wins_16 : decode cX6_wins 16 = .ok (.aload_n 0, 1) := dk_42 (dk_at dksX6_wins_0 16 rfl rfl)
theorem dX6_wins_17 : decode cX6_wins 17 = .ok (.bipush (-5), 2) := dk_16 251 (dk_at dksX6_wins_0 17 rfl rfl)
theorem dX6_wins_19 : decode cX6_wins 19 = .ok (.invokevirtual 127, 3) := dk_182 0 127 (dk_at dksX6_wins_0 19 rfl rfl)
theorem dX6_wins_22 : decode cX6_wins 22 = .ok (.ireturn, 1) := dk_172 (dk_at dksX6_wins_0 22 rfl rfl)
theorem dX6_wins_23 : decode cX6_wins 23 = .ok (.aload_n 0, 1) := dk_42 (dk_at dksX6_wins_0 23 rfl rfl)
theorem dX6_wins_24 : decode cX6_wins 24 = .ok (.invokevirtual 296, 3) := dk_182 1 40 (dk_at dksX6_wins_1 0 rfl rfl)
theorem dX6_wins_27 : decode cX6_wins 27 = .ok (.istore_n 2, 1) := dk_61 (dk_at dksX6_wins_1 3 rfl rfl)
theorem dX6_wins_28 : decode cX6_wins 28 = .ok (.iconst (-1), 1) := dk_2 (dk_at dksX6_wins_1 4 rfl rfl)
theorem dX6_wins_29 : decode cX6_wins 29 = .ok (.istore_n 3, 1) := dk_62 (dk_at dksX6_wins_1 5 rfl rfl)
theorem dX6_wins_30 : decode cX6_wins 30 = .ok (.iconst 0, 1) := dk_3 (dk_at dksX6_wins_1 6 rfl rfl)
theorem dX6_wins_31 : decode cX6_wins 31 = .ok (.istore 4, 2) := dk_54 4 (dk_at dksX6_wins_1 7 rfl rfl)
theorem dX6_wins_33 : decode cX6_wins 33 = .ok (.iload 4, 2) := dk_21 4 (dk_at dksX6_wins_1 9 rfl rfl)
theorem dX6_wins_35 : decode cX6_wins 35 = .ok (.aload_n 0, 1) := dk_42 (dk_at dksX6_wins_1 11 rfl rfl)
theorem dX6_wins_36 : decode cX6_wins 36 = .ok (.getfield 117, 3) := dk_180 0 117 (dk_at dksX6_wins_1 12 rfl rfl)
theorem dX6_wins_39 : decode cX6_wins 39 = .ok (.if_icmp .ge 44, 3) := dk_162 0 44 (dk_at dksX6_wins_1 15 rfl rfl)
theorem dX6_wins_42 : decode cX6_wins 42 = .ok (.iload 4, 2) := dk_21 4 (dk_at dksX6_wins_1 18 rfl rfl)
theorem dX6_wins_44 : decode cX6_wins 44 = .ok (.iload_n 2, 1) := dk_28 (dk_at dksX6_wins_1 20 rfl rfl)
theorem dX6_wins_45 : decode cX6_wins 45 = .ok (.if_icmp .ne 6, 3) := dk_160 0 6 (dk_at dksX6_wins_1 21 rfl rfl)
theorem dX6_wins_48 : decode cX6_wins 48 = .ok (.goto 29, 3) := dk_167 0 29 (dk_at dksX6_wins_2 0 rfl rfl)
theorem dX6_wins_51 : decode cX6_wins 51 = .ok (.aload_n 0, 1) := dk_42 (dk_at dksX6_wins_2 3 rfl rfl)
theorem dX6_wins_52 : decode cX6_wins 52 = .ok (.iload 4, 2) := dk_21 4 (dk_at dksX6_wins_2 4 rfl rfl)
theorem dX6_wins_54 : decode cX6_wins 54 = .ok (.invokevirtual 293, 3) := dk_182 1 37 (dk_at dksX6_wins_2 6 rfl rfl)
theorem dX6_wins_57 : decode cX6_wins 57 = .ok (.istore 5, 2) := dk_54 5 (dk_at dksX6_wins_2 9 rfl rfl)
theorem dX6_wins_59 : decode cX6_wins 59 = .ok (.iload_n 3, 1) := dk_29 (dk_at dksX6_wins_2 11 rfl rfl)
theorem dX6_wins_60 : decode cX6_wins 60 = .ok (.iconst (-1), 1) := dk_2 (dk_at dksX6_wins_2 12 rfl rfl)
theorem dX6_wins_61 : decode cX6_wins 61 = .ok (.if_icmp .eq 9, 3) := dk_159 0 9 (dk_at dksX6_wins_2 13 rfl rfl)
theorem dX6_wins_64 : decode cX6_wins 64 = .ok (.iload 5, 2) := dk_21 5 (dk_at dksX6_wins_2 16 rfl rfl)
theorem dX6_wins_66 : decode cX6_wins 66 = .ok (.iload_n 3, 1) := dk_29 (dk_at dksX6_wins_2 18 rfl rfl)
theorem dX6_wins_67 : decode cX6_wins 67 = .ok (.if_icmp .ge 8, 3) := dk_162 0 8 (dk_at dksX6_wins_2 19 rfl rfl)
theorem dX6_wins_70 : decode cX6_wins 70 = .ok (.iload 5, 2) := dk_21 5 (dk_at dksX6_wins_2 22 rfl rfl)
theorem dX6_wins_72 : decode cX6_wins 72 = .ok (.goto 4, 3) := dk_167 0 4 (dk_at dksX6_wins_3 0 rfl rfl)
theorem dX6_wins_75 : decode cX6_wins 75 = .ok (.iload_n 3, 1) := dk_29 (dk_at dksX6_wins_3 3 rfl rfl)
theorem dX6_wins_76 : decode cX6_wins 76 = .ok (.istore_n 3, 1) := dk_62 (dk_at dksX6_wins_3 4 rfl rfl)
theorem dX6_wins_77 : decode cX6_wins 77 = .ok (.iinc 4 1, 3) := dk_132 4 1 (dk_at dksX6_wins_3 5 rfl rfl)
theorem dX6_wins_80 : decode cX6_wins 80 = .ok (.goto (-47), 3) := dk_167 255 209 (dk_at dksX6_wins_3 8 rfl rfl)
theorem dX6_wins_83 : decode cX6_wins 83 = .ok (.iload_n 1, 1) := dk_27 (dk_at dksX6_wins_3 11 rfl rfl)
theorem dX6_wins_84 : decode cX6_wins 84 = .ok (.ifCond .ne 7, 3) := dk_154 0 7 (dk_at dksX6_wins_3 12 rfl rfl)
theorem dX6_wins_87 : decode cX6_wins 87 = .ok (.iload_n 2, 1) := dk_28 (dk_at dksX6_wins_3 15 rfl rfl)
theorem dX6_wins_88 : decode cX6_wins 88 = .ok (.goto 19, 3) := dk_167 0 19 (dk_at dksX6_wins_3 16 rfl rfl)
theorem dX6_wins_91 : decode cX6_wins 91 = .ok (.iload_n 3, 1) := dk_29 (dk_at dksX6_wins_3 19 rfl rfl)
theorem dX6_wins_92 : decode cX6_wins 92 = .ok (.iconst (-1), 1) := dk_2 (dk_at dksX6_wins_3 20 rfl rfl)
theorem dX6_wins_93 : decode cX6_wins 93 = .ok (.if_icmp .ne 7, 3) := dk_160 0 7 (dk_at dksX6_wins_3 21 rfl rfl)
theorem dX6_wins_96 : decode cX6_wins 96 = .ok (.iconst 0, 1) := dk_3 (dk_at dksX6_wins_4 0 rfl rfl)
theorem dX6_wins_97 : decode cX6_wins 97 = .ok (.goto 10, 3) := dk_167 0 10 (dk_at dksX6_wins_4 1 rfl rfl)
theorem dX6_wins_100 : decode cX6_wins 100 = .ok (.iload_n 3, 1) := dk_29 (dk_at dksX6_wins_4 4 rfl rfl)
theorem dX6_wins_101 : decode cX6_wins 101 = .ok (.aload_n 0, 1) := dk_42 (dk_at dksX6_wins_4 5 rfl rfl)
theorem dX6_wins_102 : decode cX6_wins 102 = .ok (.iload_n 2, 1) := dk_28 (dk_at dksX6_wins_4 6 rfl rfl)
theorem dX6_wins_103 : decode cX6_wins 103 = .ok (.invokevirtual 293, 3) := dk_182 1 37 (dk_at dksX6_wins_4 7 rfl rfl)
theorem dX6_wins_106 : decode cX6_wins 106 = .ok (.isub, 1) := dk_100 (dk_at dksX6_wins_4 10 rfl rfl)
theorem dX6_wins_107 : decode cX6_wins 107 = .ok (.ireturn, 1) := dk_172 (dk_at dksX6_wins_4 11 rfl rfl)
abbrev cX6_firstIn : ByteArray := prog_23_method_62_code
def yX6_firstIn : MethodName := ⟨RX6, "firstIn", "()I"⟩
def dkwX6_firstIn_1 : List UInt8 := [162, 0, 5, 28, 60, 132, 2, 1, 167, 255, 230, 27, 172]
abbrev dktX6_firstIn_1 : List UInt8 := dkwX6_firstIn_1 ++ []
def dkwX6_firstIn_0 : List UInt8 := [3, 60, 4, 61, 28, 42, 180, 0, 117, 162, 0, 24, 42, 28, 182, 1, 37, 42, 27, 182, 1, 37]
abbrev dktX6_firstIn_0 : List UInt8 := dkwX6_firstIn_0 ++ dktX6_firstIn_1
theorem dksX6_firstIn_0 : cX6_firstIn.data.toList.drop 0 = dktX6_firstIn_0 := by decide +kernel
theorem dksX6_firstIn_1 : cX6_firstIn.data.toList.drop 22 = dktX6_firstIn_1 := dk_seg dksX6_firstIn_0 22 rfl rfl
theorem dX6_firstIn_0 : decode cX6_firstIn 0 = .ok (.iconst 0, 1) := dk_3 (dk_at dksX6_firstIn_0 0 rfl rfl)
theorem dX6_firstIn_1 : decode cX6_firstIn 1 = .ok (.istore_n 1, 1) := dk_60 (dk_at dksX6_firstIn_0 1 rfl rfl)
theorem dX6_firstIn_2 : decode cX6_firstIn 2 = .ok (.iconst 1, 1) := dk_4 (dk_at dksX6_firstIn_0 2 rfl rfl)
theorem dX6_firstIn_3 : decode cX6_firstIn 3 = .ok (.istore_n 2, 1) := dk_61 (dk_at dksX6_firstIn_0 3 rfl rfl)
theorem dX6_firstIn_4 : decode cX6_firstIn 4 = .ok (.iload_n 2, 1) := dk_28 (dk_at dksX6_firstIn_0 4 rfl rfl)
theorem dX6_firstIn_5 : decode cX6_firstIn 5 = .ok (.aload_n 0, 1) := dk_42 (dk_at dksX6_firstIn_0 5 rfl rfl)
theorem dX6_firstIn_6 : decode cX6_firstIn 6 = .ok (.getfield 117, 3) := dk_180 0 117 (dk_at dksX6_firstIn_0 6 rfl rfl)
theorem dX6_firstIn_9 : decode cX6_firstIn 9 = .ok (.if_icmp .ge 24, 3) := dk_162 0 24 (dk_at dksX6_firstIn_0 9 rfl rfl)
theorem dX6_firstIn_12 : decode cX6_firstIn 12 = .ok (.aload_n 0, 1) := dk_42 (dk_at dksX6_firstIn_0 12 rfl rfl)
theorem dX6_firstIn_13 : decode cX6_firstIn 13 = .ok (.iload_n 2, 1) := dk_28 (dk_at dksX6_firstIn_0 13 rfl rfl)
theorem dX6_firstIn_14 : decode cX6_firstIn 14 = .ok (.invokevirtual 293, 3) := dk_182 1 37 (dk_at dksX6_firstIn_0 14 rfl rfl)
theorem dX6_firstIn_17 : decode cX6_firstIn 17 = .ok (.aload_n 0, 1) := dk_42 (dk_at dksX6_firstIn_0 17 rfl rfl)
theorem dX6_firstIn_18 : decode cX6_firstIn 18 = .ok (.iload_n 1, 1) := dk_27 (dk_at dksX6_firstIn_0 18 rfl rfl)
theorem dX6_firstIn_19 : decode cX6_firstIn 19 = .ok (.invokevirtual 293, 3) := dk_182 1 37 (dk_at dksX6_firstIn_0 19 rfl rfl)
theorem dX6_firstIn_22 : decode cX6_firstIn 22 = .ok (.if_icmp .ge 5, 3) := dk_162 0 5 (dk_at dksX6_firstIn_1 0 rfl rfl)
theorem dX6_firstIn_25 : decode cX6_firstIn 25 = .ok (.iload_n 2, 1) := dk_28 (dk_at dksX6_firstIn_1 3 rfl rfl)
theorem dX6_firstIn_26 : decode cX6_firstIn 26 = .ok (.istore_n 1, 1) := dk_60 (dk_at dksX6_firstIn_1 4 rfl rfl)
theorem dX6_firstIn_27 : decode cX6_firstIn 27 = .ok (.iinc 2 1, 3) := dk_132 2 1 (dk_at dksX6_firstIn_1 5 rfl rfl)
theorem dX6_firstIn_30 : decode cX6_firstIn 30 = .ok (.goto (-26), 3) := dk_167 255 230 (dk_at dksX6_firstIn_1 8 rfl rfl)
theorem dX6_firstIn_33 : decode cX6_firstIn 33 = .ok (.iload_n 1, 1) := dk_27 (dk_at dksX6_firstIn_1 11 rfl rfl)
theorem dX6_firstIn_34 : decode cX6_firstIn 34 = .ok (.ireturn, 1) := dk_172 (dk_at dksX6_firstIn_1 12 rfl rfl)
abbrev cX6_best : ByteArray := prog_23_method_66_code
def yX6_best : MethodName := ⟨RX6, "best", "(II)I"⟩
def dkwX6_best_4 : List UInt8 := [42, 27, 3, 182, 1, 55, 162, 0, 7, 4, 167, 0, 4, 3, 172]
abbrev dktX6_best_4 : List UInt8 := dkwX6_best_4 ++ []
def dkwX6_best_3 : List UInt8 := [182, 1, 43, 42, 27, 8, 182, 1, 43, 162, 0, 7, 4, 167, 0, 4, 3, 172, 42, 27, 4, 182, 1, 55]
abbrev dktX6_best_3 : List UInt8 := dkwX6_best_3 ++ dktX6_best_4
def dkwX6_best_2 : List UInt8 := [182, 1, 49, 172, 28, 5, 160, 0, 9, 42, 27, 182, 1, 52, 172, 28, 4, 160, 0, 24, 42, 27, 6]
abbrev dktX6_best_2 : List UInt8 := dkwX6_best_2 ++ dktX6_best_3
def dkwX6_best_1 : List UInt8 := [5, 160, 0, 17, 42, 180, 0, 120, 154, 0, 10, 42, 16, 251, 182, 0, 127, 172, 28, 154, 0, 9, 42, 27]
abbrev dktX6_best_1 : List UInt8 := dkwX6_best_1 ++ dktX6_best_2
def dkwX6_best_0 : List UInt8 := [42, 27, 182, 0, 131, 154, 0, 9, 42, 2, 182, 0, 127, 172, 28, 155, 0, 20, 28, 6, 163, 0, 15, 28]
abbrev dktX6_best_0 : List UInt8 := dkwX6_best_0 ++ dktX6_best_1
theorem dksX6_best_0 : cX6_best.data.toList.drop 0 = dktX6_best_0 := by decide +kernel
theorem dksX6_best_1 : cX6_best.data.toList.drop 24 = dktX6_best_1 := dk_seg dksX6_best_0 24 rfl rfl
theorem dksX6_best_2 : cX6_best.data.toList.drop 48 = dktX6_best_2 := dk_seg dksX6_best_1 24 rfl rfl
theorem dksX6_best_3 : cX6_best.data.toList.drop 71 = dktX6_best_3 := dk_seg dksX6_best_2 23 rfl rfl
theorem dksX6_best_4 : cX6_best.data.toList.drop 95 = dktX6_best_4 := dk_seg dksX6_best_3 24 rfl rfl
theorem dX6_best_0 : decode cX6_best 0 = .ok (.aload_n 0, 1) := dk_42 (dk_at dksX6_best_0 0 rfl rfl)
theorem dX6_best_1 : decode cX6_best 1 = .ok (.iload_n 1, 1) := dk_27 (dk_at dksX6_best_0 1 rfl rfl)
theorem dX6_best_2 : decode cX6_best 2 = .ok (.invokevirtual 131, 3) := dk_182 0 131 (dk_at dksX6_best_0 2 rfl rfl)
theorem dX6_best_5 : decode cX6_best 5 = .ok (.ifCond .ne 9, 3) := dk_154 0 9 (dk_at dksX6_best_0 5 rfl rfl)
theorem dX6_best_8 : decode cX6_best 8 = .ok (.aload_n 0, 1) := dk_42 (dk_at dksX6_best_0 8 rfl rfl)
theorem dX6_best_9 : decode cX6_best 9 = .ok (.iconst (-1), 1) := dk_2 (dk_at dksX6_best_0 9 rfl rfl)
theorem dX6_best_10 : decode cX6_best 10 = .ok (.invokevirtual 127, 3) := dk_182 0 127 (dk_at dksX6_best_0 10 rfl rfl)
theorem dX6_best_13 : decode cX6_best 13 = .ok (.ireturn, 1) := dk_172 (dk_at dksX6_best_0 13 rfl rfl)
theorem dX6_best_14 : decode cX6_best 14 = .ok (.iload_n 2, 1) := dk_28 (dk_at dksX6_best_0 14 rfl rfl)
theorem dX6_best_15 : decode cX6_best 15 = .ok (.ifCond .lt 20, 3) := dk_155 0 20 (dk_at dksX6_best_0 15 rfl rfl)
theorem dX6_best_18 : decode cX6_best 18 = .ok (.iload_n 2, 1) := dk_28 (dk_at dksX6_best_0 18 rfl rfl)
theorem dX6_best_19 : decode cX6_best 19 = .ok (.iconst 3, 1) := dk_6 (dk_at dksX6_best_0 19 rfl rfl)
theorem dX6_best_20 : decode cX6_best 20 = .ok (.if_icmp .gt 15, 3) := dk_163 0 15 (dk_at dksX6_best_0 20 rfl rfl)
theorem dX6_best_23 : decode cX6_best 23 = .ok (.iload_n 2, 1) := dk_28 (dk_at dksX6_best_0 23 rfl rfl)
theorem dX6_best_24 : decode cX6_best 24 = .ok (.iconst 2, 1) := dk_5 (dk_at dksX6_best_1 0 rfl rfl)
theorem dX6_best_25 : decode cX6_best 25 = .ok (.if_icmp .ne 17, 3) := dk_160 0 17 (dk_at dksX6_best_1 1 rfl rfl)
theorem dX6_best_28 : decode cX6_best 28 = .ok (.aload_n 0, 1) := dk_42 (dk_at dksX6_best_1 4 rfl rfl)
theorem dX6_best_29 : decode cX6_best 29 = .ok (.getfield 120, 3) := dk_180 0 120 (dk_at dksX6_best_1 5 rfl rfl)
theorem dX6_best_32 : decode cX6_best 32 = .ok (.ifCond .ne 10, 3) := dk_154 0 10 (dk_at dksX6_best_1 8 rfl rfl)
theorem dX6_best_35 : decode cX6_best 35 = .ok (.aload_n 0, 1) := dk_42 (dk_at dksX6_best_1 11 rfl rfl)
theorem dX6_best_36 : decode cX6_best 36 = .ok (.bipush (-5), 2) := dk_16 251 (dk_at dksX6_best_1 12 rfl rfl)
theorem dX6_best_38 : decode cX6_best 38 = .ok (.invokevirtual 127, 3) := dk_182 0 127 (dk_at dksX6_best_1 14 rfl rfl)
theorem dX6_best_41 : decode cX6_best 41 = .ok (.ireturn, 1) := dk_172 (dk_at dksX6_best_1 17 rfl rfl)
theorem dX6_best_42 : decode cX6_best 42 = .ok (.iload_n 2, 1) := dk_28 (dk_at dksX6_best_1 18 rfl rfl)
theorem dX6_best_43 : decode cX6_best 43 = .ok (.ifCond .ne 9, 3) := dk_154 0 9 (dk_at dksX6_best_1 19 rfl rfl)
theorem dX6_best_46 : decode cX6_best 46 = .ok (.aload_n 0, 1) := dk_42 (dk_at dksX6_best_1 22 rfl rfl)
theorem dX6_best_47 : decode cX6_best 47 = .ok (.iload_n 1, 1) := dk_27 (dk_at dksX6_best_1 23 rfl rfl)
theorem dX6_best_48 : decode cX6_best 48 = .ok (.invokevirtual 305, 3) := dk_182 1 49 (dk_at dksX6_best_2 0 rfl rfl)
theorem dX6_best_51 : decode cX6_best 51 = .ok (.ireturn, 1) := dk_172 (dk_at dksX6_best_2 3 rfl rfl)
theorem dX6_best_52 : decode cX6_best 52 = .ok (.iload_n 2, 1) := dk_28 (dk_at dksX6_best_2 4 rfl rfl)
theorem dX6_best_53 : decode cX6_best 53 = .ok (.iconst 2, 1) := dk_5 (dk_at dksX6_best_2 5 rfl rfl)
theorem dX6_best_54 : decode cX6_best 54 = .ok (.if_icmp .ne 9, 3) := dk_160 0 9 (dk_at dksX6_best_2 6 rfl rfl)
theorem dX6_best_57 : decode cX6_best 57 = .ok (.aload_n 0, 1) := dk_42 (dk_at dksX6_best_2 9 rfl rfl)
theorem dX6_best_58 : decode cX6_best 58 = .ok (.iload_n 1, 1) := dk_27 (dk_at dksX6_best_2 10 rfl rfl)
theorem dX6_best_59 : decode cX6_best 59 = .ok (.invokevirtual 308, 3) := dk_182 1 52 (dk_at dksX6_best_2 11 rfl rfl)
theorem dX6_best_62 : decode cX6_best 62 = .ok (.ireturn, 1) := dk_172 (dk_at dksX6_best_2 14 rfl rfl)
theorem dX6_best_63 : decode cX6_best 63 = .ok (.iload_n 2, 1) := dk_28 (dk_at dksX6_best_2 15 rfl rfl)
theorem dX6_best_64 : decode cX6_best 64 = .ok (.iconst 1, 1) := dk_4 (dk_at dksX6_best_2 16 rfl rfl)
theorem dX6_best_65 : decode cX6_best 65 = .ok (.if_icmp .ne 24, 3) := dk_160 0 24 (dk_at dksX6_best_2 17 rfl rfl)
theorem dX6_best_68 : decode cX6_best 68 = .ok (.aload_n 0, 1) := dk_42 (dk_at dksX6_best_2 20 rfl rfl)
theorem dX6_best_69 : decode cX6_best 69 = .ok (.iload_n 1, 1) := dk_27 (dk_at dksX6_best_2 21 rfl rfl)
theorem dX6_best_70 : decode cX6_best 70 = .ok (.iconst 3, 1) := dk_6 (dk_at dksX6_best_2 22 rfl rfl)
theorem dX6_best_71 : decode cX6_best 71 = .ok (.invokevirtual 299, 3) := dk_182 1 43 (dk_at dksX6_best_3 0 rfl rfl)
theorem dX6_best_74 : decode cX6_best 74 = .ok (.aload_n 0, 1) := dk_42 (dk_at dksX6_best_3 3 rfl rfl)
theorem dX6_best_75 : decode cX6_best 75 = .ok (.iload_n 1, 1) := dk_27 (dk_at dksX6_best_3 4 rfl rfl)
theorem dX6_best_76 : decode cX6_best 76 = .ok (.iconst 5, 1) := dk_8 (dk_at dksX6_best_3 5 rfl rfl)
theorem dX6_best_77 : decode cX6_best 77 = .ok (.invokevirtual 299, 3) := dk_182 1 43 (dk_at dksX6_best_3 6 rfl rfl)
theorem dX6_best_80 : decode cX6_best 80 = .ok (.if_icmp .ge 7, 3) := dk_162 0 7 (dk_at dksX6_best_3 9 rfl rfl)
theorem dX6_best_83 : decode cX6_best 83 = .ok (.iconst 1, 1) := dk_4 (dk_at dksX6_best_3 12 rfl rfl)
theorem dX6_best_84 : decode cX6_best 84 = .ok (.goto 4, 3) := dk_167 0 4 (dk_at dksX6_best_3 13 rfl rfl)
theorem dX6_best_87 : decode cX6_best 87 = .ok (.iconst 0, 1) := dk_3 (dk_at dksX6_best_3 16 rfl rfl)
theorem dX6_best_88 : decode cX6_best 88 = .ok (.ireturn, 1) := dk_172 (dk_at dksX6_best_3 17 rfl rfl)
theorem dX6_best_89 : decode cX6_best 89 = .ok (.aload_n 0, 1) := dk_42 (dk_at dksX6_best_3 18 rfl rfl)
theorem dX6_best_90 : decode cX6_best 90 = .ok (.iload_n 1, 1) := dk_27 (dk_at dksX6_best_3 19 rfl rfl)
theorem dX6_best_91 : decode cX6_best 91 = .ok (.iconst 1, 1) := dk_4 (dk_at dksX6_best_3 20 rfl rfl)
theorem dX6_best_92 : decode cX6_best 92 = .ok (.invokevirtual 311, 3) := dk_182 1 55 (dk_at dksX6_best_3 21 rfl rfl)
theorem dX6_best_95 : decode cX6_best 95 = .ok (.aload_n 0, 1) := dk_42 (dk_at dksX6_best_4 0 rfl rfl)
theorem dX6_best_96 : decode cX6_best 96 = .ok (.iload_n 1, 1) := dk_27 (dk_at dksX6_best_4 1 rfl rfl)
theorem dX6_best_97 : decode cX6_best 97 = .ok (.iconst 0, 1) := dk_3 (dk_at dksX6_best_4 2 rfl rfl)
theorem dX6_best_98 : decode cX6_best 98 = .ok (.invokevirtual 311, 3) := dk_182 1 55 (dk_at dksX6_best_4 3 rfl rfl)
theorem dX6_best_101 : decode cX6_best 101 = .ok (.if_icmp .ge 7, 3) := dk_162 0 7 (dk_at dksX6_best_4 6 rfl rfl)
theorem dX6_best_104 : decode cX6_best 104 = .ok (.iconst 1, 1) := dk_4 (dk_at dksX6_best_4 9 rfl rfl)
theorem dX6_best_105 : decode cX6_best 105 = .ok (.goto 4, 3) := dk_167 0 4 (dk_at dksX6_best_4 10 rfl rfl)
theorem dX6_best_108 : decode cX6_best 108 = .ok (.iconst 0, 1) := dk_3 (dk_at dksX6_best_4 13 rfl rfl)
theorem dX6_best_109 : decode cX6_best 109 = .ok (.ireturn, 1) := dk_172 (dk_at dksX6_best_4 14 rfl rfl)
abbrev cX6_how : ByteArray := prog_23_method_64_code
def yX6_how : MethodName := ⟨RX6, "how", "(I)I"⟩
def dkwX6_how_1 : List UInt8 := [162, 0, 5, 29, 61, 132, 3, 1, 167, 255, 230, 28, 172]
abbrev dktX6_how_1 : List UInt8 := dkwX6_how_1 ++ []
def dkwX6_how_0 : List UInt8 := [3, 61, 4, 62, 29, 16, 7, 162, 0, 26, 42, 27, 29, 182, 1, 43, 42, 27, 28, 182, 1, 43]
abbrev dktX6_how_0 : List UInt8 := dkwX6_how_0 ++ dktX6_how_1
theorem dksX6_how_0 : cX6_how.data.toList.drop 0 = dktX6_how_0 := by decide +kernel
theorem dksX6_how_1 : cX6_how.data.toList.drop 22 = dktX6_how_1 := dk_seg dksX6_how_0 22 rfl rfl
theorem dX6_how_0 : decode cX6_how 0 = .ok (.iconst 0, 1) := dk_3 (dk_at dksX6_how_0 0 rfl rfl)
theorem dX6_how_1 : decode cX6_how 1 = .ok (.istore_n 2, 1) := dk_61 (dk_at dksX6_how_0 1 rfl rfl)
theorem dX6_how_2 : decode cX6_how 2 = .ok (.iconst 1, 1) := dk_4 (dk_at dksX6_how_0 2 rfl rfl)
theorem dX6_how_3 : decode cX6_how 3 = .ok (.istore_n 3, 1) := dk_62 (dk_at dksX6_how_0 3 rfl rfl)
theorem dX6_how_4 : decode cX6_how 4 = .ok (.iload_n 3, 1) := dk_29 (dk_at dksX6_how_0 4 rfl rfl)
theorem dX6_how_5 : decode cX6_how 5 = .ok (.bipush 7, 2) := dk_16 7 (dk_at dksX6_how_0 5 rfl rfl)
theorem dX6_how_7 : decode cX6_how 7 = .ok (.if_icmp .ge 26, 3) := dk_162 0 26 (dk_at dksX6_how_0 7 rfl rfl)
theorem dX6_how_10 : decode cX6_how 10 = .ok (.aload_n 0, 1) := dk_42 (dk_at dksX6_how_0 10 rfl rfl)
theorem dX6_how_11 : decode cX6_how 11 = .ok (.iload_n 1, 1) := dk_27 (dk_at dksX6_how_0 11 rfl rfl)
theorem dX6_how_12 : decode cX6_how 12 = .ok (.iload_n 3, 1) := dk_29 (dk_at dksX6_how_0 12 rfl rfl)
theorem dX6_how_13 : decode cX6_how 13 = .ok (.invokevirtual 299, 3) := dk_182 1 43 (dk_at dksX6_how_0 13 rfl rfl)
theorem dX6_how_16 : decode cX6_how 16 = .ok (.aload_n 0, 1) := dk_42 (dk_at dksX6_how_0 16 rfl rfl)
theorem dX6_how_17 : decode cX6_how 17 = .ok (.iload_n 1, 1) := dk_27 (dk_at dksX6_how_0 17 rfl rfl)
theorem dX6_how_18 : decode cX6_how 18 = .ok (.iload_n 2, 1) := dk_28 (dk_at dksX6_how_0 18 rfl rfl)
theorem dX6_how_19 : decode cX6_how 19 = .ok (.invokevirtual 299, 3) := dk_182 1 43 (dk_at dksX6_how_0 19 rfl rfl)
theorem dX6_how_22 : decode cX6_how 22 = .ok (.if_icmp .ge 5, 3) := dk_162 0 5 (dk_at dksX6_how_1 0 rfl rfl)
theorem dX6_how_25 : decode cX6_how 25 = .ok (.iload_n 3, 1) := dk_29 (dk_at dksX6_how_1 3 rfl rfl)
theorem dX6_how_26 : decode cX6_how 26 = .ok (.istore_n 2, 1) := dk_61 (dk_at dksX6_how_1 4 rfl rfl)
theorem dX6_how_27 : decode cX6_how 27 = .ok (.iinc 3 1, 3) := dk_132 3 1 (dk_at dksX6_how_1 5 rfl rfl)
theorem dX6_how_30 : decode cX6_how 30 = .ok (.goto (-26), 3) := dk_167 255 230 (dk_at dksX6_how_1 8 rfl rfl)
theorem dX6_how_33 : decode cX6_how 33 = .ok (.iload_n 2, 1) := dk_28 (dk_at dksX6_how_1 11 rfl rfl)
theorem dX6_how_34 : decode cX6_how 34 = .ok (.ireturn, 1) := dk_172 (dk_at dksX6_how_1 12 rfl rfl)
abbrev cX6_inAs : ByteArray := prog_23_method_57_code
def yX6_inAs : MethodName := ⟨RX6, "inAs", "(II)I"⟩
def dkwX6_inAs_0 : List UInt8 := [42, 27, 182, 0, 134, 42, 28, 181, 0, 224, 42, 182, 1, 34, 172]
abbrev dktX6_inAs_0 : List UInt8 := dkwX6_inAs_0 ++ []
theorem dksX6_inAs_0 : cX6_inAs.data.toList.drop 0 = dktX6_inAs_0 := by decide +kernel
theorem dX6_inAs_0 : decode cX6_inAs 0 = .ok (.aload_n 0, 1) := dk_42 (dk_at dksX6_inAs_0 0 rfl rfl)
theorem dX6_inAs_1 : decode cX6_inAs 1 = .ok (.iload_n 1, 1) := dk_27 (dk_at dksX6_inAs_0 1 rfl rfl)
theorem dX6_inAs_2 : decode cX6_inAs 2 = .ok (.invokevirtual 134, 3) := dk_182 0 134 (dk_at dksX6_inAs_0 2 rfl rfl)
theorem dX6_inAs_5 : decode cX6_inAs 5 = .ok (.aload_n 0, 1) := dk_42 (dk_at dksX6_inAs_0 5 rfl rfl)
theorem dX6_inAs_6 : decode cX6_inAs 6 = .ok (.iload_n 2, 1) := dk_28 (dk_at dksX6_inAs_0 6 rfl rfl)
theorem dX6_inAs_7 : decode cX6_inAs 7 = .ok (.putfield 224, 3) := dk_181 0 224 (dk_at dksX6_inAs_0 7 rfl rfl)
theorem dX6_inAs_10 : decode cX6_inAs 10 = .ok (.aload_n 0, 1) := dk_42 (dk_at dksX6_inAs_0 10 rfl rfl)
theorem dX6_inAs_11 : decode cX6_inAs 11 = .ok (.invokevirtual 290, 3) := dk_182 1 34 (dk_at dksX6_inAs_0 11 rfl rfl)
theorem dX6_inAs_14 : decode cX6_inAs 14 = .ok (.ireturn, 1) := dk_172 (dk_at dksX6_inAs_0 14 rfl rfl)
abbrev cX6_bestSack : ByteArray := prog_23_method_65_code
def yX6_bestSack : MethodName := ⟨RX6, "bestSack", "(I)I"⟩
def dkwX6_bestSack_1 : List UInt8 := [162, 0, 5, 29, 61, 132, 3, 1, 167, 255, 228, 28, 172]
abbrev dktX6_bestSack_1 : List UInt8 := dkwX6_bestSack_1 ++ []
def dkwX6_bestSack_0 : List UInt8 := [3, 61, 4, 62, 29, 42, 180, 0, 120, 162, 0, 26, 42, 27, 29, 182, 1, 46, 42, 27, 28, 182, 1, 46]
abbrev dktX6_bestSack_0 : List UInt8 := dkwX6_bestSack_0 ++ dktX6_bestSack_1
theorem dksX6_bestSack_0 : cX6_bestSack.data.toList.drop 0 = dktX6_bestSack_0 := by decide +kernel
theorem dksX6_bestSack_1 : cX6_bestSack.data.toList.drop 24 = dktX6_bestSack_1 := dk_seg dksX6_bestSack_0 24 rfl rfl
theorem dX6_bestSack_0 : decode cX6_bestSack 0 = .ok (.iconst 0, 1) := dk_3 (dk_at dksX6_bestSack_0 0 rfl rfl)
theorem dX6_bestSack_1 : decode cX6_bestSack 1 = .ok (.istore_n 2, 1) := dk_61 (dk_at dksX6_bestSack_0 1 rfl rfl)
theorem dX6_bestSack_2 : decode cX6_bestSack 2 = .ok (.iconst 1, 1) := dk_4 (dk_at dksX6_bestSack_0 2 rfl rfl)
theorem dX6_bestSack_3 : decode cX6_bestSack 3 = .ok (.istore_n 3, 1) := dk_62 (dk_at dksX6_bestSack_0 3 rfl rfl)
theorem dX6_bestSack_4 : decode cX6_bestSack 4 = .ok (.iload_n 3, 1) := dk_29 (dk_at dksX6_bestSack_0 4 rfl rfl)
theorem dX6_bestSack_5 : decode cX6_bestSack 5 = .ok (.aload_n 0, 1) := dk_42 (dk_at dksX6_bestSack_0 5 rfl rfl)
theorem dX6_bestSack_6 : decode cX6_bestSack 6 = .ok (.getfield 120, 3) := dk_180 0 120 (dk_at dksX6_bestSack_0 6 rfl rfl)
theorem dX6_bestSack_9 : decode cX6_bestSack 9 = .ok (.if_icmp .ge 26, 3) := dk_162 0 26 (dk_at dksX6_bestSack_0 9 rfl rfl)
theorem dX6_bestSack_12 : decode cX6_bestSack 12 = .ok (.aload_n 0, 1) := dk_42 (dk_at dksX6_bestSack_0 12 rfl rfl)
theorem dX6_bestSack_13 : decode cX6_bestSack 13 = .ok (.iload_n 1, 1) := dk_27 (dk_at dksX6_bestSack_0 13 rfl rfl)
theorem dX6_bestSack_14 : decode cX6_bestSack 14 = .ok (.iload_n 3, 1) := dk_29 (dk_at dksX6_bestSack_0 14 rfl rfl)
theorem dX6_bestSack_15 : decode cX6_bestSack 15 = .ok (.invokevirtual 302, 3) := dk_182 1 46 (dk_at dksX6_bestSack_0 15 rfl rfl)
theorem dX6_bestSack_18 : decode cX6_bestSack 18 = .ok (.aload_n 0, 1) := dk_42 (dk_at dksX6_bestSack_0 18 rfl rfl)
theorem dX6_bestSack_19 : decode cX6_bestSack 19 = .ok (.iload_n 1, 1) := dk_27 (dk_at dksX6_bestSack_0 19 rfl rfl)
theorem dX6_bestSack_20 : decode cX6_bestSack 20 = .ok (.iload_n 2, 1) := dk_28 (dk_at dksX6_bestSack_0 20 rfl rfl)
theorem dX6_bestSack_21 : decode cX6_bestSack 21 = .ok (.invokevirtual 302, 3) := dk_182 1 46 (dk_at dksX6_bestSack_0 21 rfl rfl)
theorem dX6_bestSack_24 : decode cX6_bestSack 24 = .ok (.if_icmp .ge 5, 3) := dk_162 0 5 (dk_at dksX6_bestSack_1 0 rfl rfl)
theorem dX6_bestSack_27 : decode cX6_bestSack 27 = .ok (.iload_n 3, 1) := dk_29 (dk_at dksX6_bestSack_1 3 rfl rfl)
theorem dX6_bestSack_28 : decode cX6_bestSack 28 = .ok (.istore_n 2, 1) := dk_61 (dk_at dksX6_bestSack_1 4 rfl rfl)
theorem dX6_bestSack_29 : decode cX6_bestSack 29 = .ok (.iinc 3 1, 3) := dk_132 3 1 (dk_at dksX6_bestSack_1 5 rfl rfl)
theorem dX6_bestSack_32 : decode cX6_bestSack 32 = .ok (.goto (-28), 3) := dk_167 255 228 (dk_at dksX6_bestSack_1 8 rfl rfl)
theorem dX6_bestSack_35 : decode cX6_bestSack 35 = .ok (.iload_n 2, 1) := dk_28 (dk_at dksX6_bestSack_1 11 rfl rfl)
theorem dX6_bestSack_36 : decode cX6_bestSack 36 = .ok (.ireturn, 1) := dk_172 (dk_at dksX6_bestSack_1 12 rfl rfl)
abbrev cX6_inWith : ByteArray := prog_23_method_56_code
def yX6_inWith : MethodName := ⟨RX6, "inWith", "(II)I"⟩
def dkwX6_inWith_0 : List UInt8 := [42, 27, 182, 0, 134, 42, 28, 182, 0, 239, 42, 182, 1, 34, 172]
abbrev dktX6_inWith_0 : List UInt8 := dkwX6_inWith_0 ++ []
theorem dksX6_inWith_0 : cX6_inWith.data.toList.drop 0 = dktX6_inWith_0 := by decide +kernel
theorem dX6_inWith_0 : decode cX6_inWith 0 = .ok (.aload_n 0, 1) := dk_42 (dk_at dksX6_inWith_0 0 rfl rfl)
theorem dX6_inWith_1 : decode cX6_inWith 1 = .ok (.iload_n 1, 1) := dk_27 (dk_at dksX6_inWith_0 1 rfl rfl)
theorem dX6_inWith_2 : decode cX6_inWith 2 = .ok (.invokevirtual 134, 3) := dk_182 0 134 (dk_at dksX6_inWith_0 2 rfl rfl)
theorem dX6_inWith_5 : decode cX6_inWith 5 = .ok (.aload_n 0, 1) := dk_42 (dk_at dksX6_inWith_0 5 rfl rfl)
theorem dX6_inWith_6 : decode cX6_inWith 6 = .ok (.iload_n 2, 1) := dk_28 (dk_at dksX6_inWith_0 6 rfl rfl)
theorem dX6_inWith_7 : decode cX6_inWith 7 = .ok (.invokevirtual 239, 3) := dk_182 0 239 (dk_at dksX6_inWith_0 7 rfl rfl)
theorem dX6_inWith_10 : decode cX6_inWith 10 = .ok (.aload_n 0, 1) := dk_42 (dk_at dksX6_inWith_0 10 rfl rfl)
theorem dX6_inWith_11 : decode cX6_inWith 11 = .ok (.invokevirtual 290, 3) := dk_182 1 34 (dk_at dksX6_inWith_0 11 rfl rfl)
theorem dX6_inWith_14 : decode cX6_inWith 14 = .ok (.ireturn, 1) := dk_172 (dk_at dksX6_inWith_0 14 rfl rfl)
abbrev cX6_inRolling : ByteArray := prog_23_method_59_code
def yX6_inRolling : MethodName := ⟨RX6, "inRolling", "(II)I"⟩
def dkwX6_inRolling_0 : List UInt8 := [42, 27, 182, 0, 134, 42, 28, 181, 0, 236, 42, 182, 1, 34, 172]
abbrev dktX6_inRolling_0 : List UInt8 := dkwX6_inRolling_0 ++ []
theorem dksX6_inRolling_0 : cX6_inRolling.data.toList.drop 0 = dktX6_inRolling_0 := by decide +kernel
theorem dX6_inRolling_0 : decode cX6_inRolling 0 = .ok (.aload_n 0, 1) := dk_42 (dk_at dksX6_inRolling_0 0 rfl rfl)
theorem dX6_inRolling_1 : decode cX6_inRolling 1 = .ok (.iload_n 1, 1) := dk_27 (dk_at dksX6_inRolling_0 1 rfl rfl)
theorem dX6_inRolling_2 : decode cX6_inRolling 2 = .ok (.invokevirtual 134, 3) := dk_182 0 134 (dk_at dksX6_inRolling_0 2 rfl rfl)
theorem dX6_inRolling_5 : decode cX6_inRolling 5 = .ok (.aload_n 0, 1) := dk_42 (dk_at dksX6_inRolling_0 5 rfl rfl)
theorem dX6_inRolling_6 : decode cX6_inRolling 6 = .ok (.iload_n 2, 1) := dk_28 (dk_at dksX6_inRolling_0 6 rfl rfl)
theorem dX6_inRolling_7 : decode cX6_inRolling 7 = .ok (.putfield 236, 3) := dk_181 0 236 (dk_at dksX6_inRolling_0 7 rfl rfl)
theorem dX6_inRolling_10 : decode cX6_inRolling 10 = .ok (.aload_n 0, 1) := dk_42 (dk_at dksX6_inRolling_0 10 rfl rfl)
theorem dX6_inRolling_11 : decode cX6_inRolling 11 = .ok (.invokevirtual 290, 3) := dk_182 1 34 (dk_at dksX6_inRolling_0 11 rfl rfl)
theorem dX6_inRolling_14 : decode cX6_inRolling 14 = .ok (.ireturn, 1) := dk_172 (dk_at dksX6_inRolling_0 14 rfl rfl)
abbrev cX6_given : ByteArray := prog_23_method_68_code
def yX6_given : MethodName := ⟨RX6, "given", "(III)I"⟩
def dkwX6_given_6 : List UInt8 := [42, 180, 0, 96, 29, 46, 172]
abbrev dktX6_given_6 : List UInt8 := dkwX6_given_6 ++ []
def dkwX6_given_5 : List UInt8 := [27, 3, 28, 3, 3, 3, 17, 3, 231, 182, 1, 61, 29, 2, 160, 0, 10, 42, 180, 1, 58, 167, 0, 9]
abbrev dktX6_given_5 : List UInt8 := dkwX6_given_5 ++ dktX6_given_6
def dkwX6_given_4 : List UInt8 := [21, 5, 182, 1, 46, 79, 132, 5, 1, 167, 255, 223, 132, 4, 1, 167, 255, 208, 42, 2, 181, 1, 58, 42]
abbrev dktX6_given_4 : List UInt8 := dkwX6_given_4 ++ dktX6_given_5
def dkwX6_given_3 : List UInt8 := [21, 5, 42, 180, 0, 120, 162, 0, 30, 42, 180, 0, 90, 16, 8, 21, 4, 104, 21, 5, 96, 42, 21, 4]
abbrev dktX6_given_3 : List UInt8 := dkwX6_given_3 ++ dktX6_given_4
def dkwX6_given_2 : List UInt8 := [28, 161, 0, 10, 42, 16, 251, 182, 0, 127, 172, 3, 54, 4, 21, 4, 28, 162, 0, 48, 3, 54, 5]
abbrev dktX6_given_2 : List UInt8 := dkwX6_given_2 ++ dktX6_given_3
def dkwX6_given_1 : List UInt8 := [163, 0, 11, 28, 42, 180, 0, 120, 164, 0, 10, 42, 16, 250, 182, 0, 127, 172, 29, 2, 161, 0, 8, 29]
abbrev dktX6_given_1 : List UInt8 := dkwX6_given_1 ++ dktX6_given_2
def dkwX6_given_0 : List UInt8 := [27, 155, 0, 34, 27, 5, 163, 0, 29, 28, 4, 161, 0, 24, 28, 8, 163, 0, 19, 28, 42, 180, 0, 117]
abbrev dktX6_given_0 : List UInt8 := dkwX6_given_0 ++ dktX6_given_1
theorem dksX6_given_0 : cX6_given.data.toList.drop 0 = dktX6_given_0 := by decide +kernel
theorem dksX6_given_1 : cX6_given.data.toList.drop 24 = dktX6_given_1 := dk_seg dksX6_given_0 24 rfl rfl
theorem dksX6_given_2 : cX6_given.data.toList.drop 48 = dktX6_given_2 := dk_seg dksX6_given_1 24 rfl rfl
theorem dksX6_given_3 : cX6_given.data.toList.drop 71 = dktX6_given_3 := dk_seg dksX6_given_2 23 rfl rfl
theorem dksX6_given_4 : cX6_given.data.toList.drop 95 = dktX6_given_4 := dk_seg dksX6_given_3 24 rfl rfl
theorem dksX6_given_5 : cX6_given.data.toList.drop 119 = dktX6_given_5 := dk_seg dksX6_given_4 24 rfl rfl
theorem dksX6_given_6 : cX6_given.data.toList.drop 143 = dktX6_given_6 := dk_seg dksX6_given_5 24 rfl rfl
theorem dX6_given_0 : decode cX6_given 0 = .ok (.iload_n 1, 1) := dk_27 (dk_at dksX6_given_0 0 rfl rfl)
theorem dX6_given_1 : decode cX6_given 1 = .ok (.ifCond .lt 34, 3) := dk_155 0 34 (dk_at dksX6_given_0 1 rfl rfl)
theorem dX6_given_4 : decode cX6_given 4 = .ok (.iload_n 1, 1) := dk_27 (dk_at dksX6_given_0 4 rfl rfl)
theorem dX6_given_5 : decode cX6_given 5 = .ok (.iconst 2, 1) := dk_5 (dk_at dksX6_given_0 5 rfl rfl)
theorem dX6_given_6 : decode cX6_given 6 = .ok (.if_icmp .gt 29, 3) := dk_163 0 29 (dk_at dksX6_given_0 6 rfl rfl)
theorem dX6_given_9 : decode cX6_given 9 = .ok (.iload_n 2, 1) := dk_28 (dk_at dksX6_given_0 9 rfl rfl)
theorem dX6_given_10 : decode cX6_given 10 = .ok (.iconst 1, 1) := dk_4 (dk_at dksX6_given_0 10 rfl rfl)
theorem dX6_given_11 : decode cX6_given 11 = .ok (.if_icmp .lt 24, 3) := dk_161 0 24 (dk_at dksX6_given_0 11 rfl rfl)
theorem dX6_given_14 : decode cX6_given 14 = .ok (.iload_n 2, 1) := dk_28 (dk_at dksX6_given_0 14 rfl rfl)
theorem dX6_given_15 : decode cX6_given 15 = .ok (.iconst 5, 1) := dk_8 (dk_at dksX6_given_0 15 rfl rfl)
theorem dX6_given_16 : decode cX6_given 16 = .ok (.if_icmp .gt 19, 3) := dk_163 0 19 (dk_at dksX6_given_0 16 rfl rfl)
theorem dX6_given_19 : decode cX6_given 19 = .ok (.iload_n 2, 1) := dk_28 (dk_at dksX6_given_0 19 rfl rfl)
theorem dX6_given_20 : decode cX6_given 20 = .ok (.aload_n 0, 1) := dk_42 (dk_at dksX6_given_0 20 rfl rfl)
theorem dX6_given_21 : decode cX6_given 21 = .ok (.getfield 117, 3) := dk_180 0 117 (dk_at dksX6_given_0 21 rfl rfl)
theorem dX6_given_24 : decode cX6_given 24 = .ok (.if_icmp .gt 11, 3) := dk_163 0 11 (dk_at dksX6_given_1 0 rfl rfl)
theorem dX6_given_27 : decode cX6_given 27 = .ok (.iload_n 2, 1) := dk_28 (dk_at dksX6_given_1 3 rfl rfl)
theorem dX6_given_28 : decode cX6_given 28 = .ok (.aload_n 0, 1) := dk_42 (dk_at dksX6_given_1 4 rfl rfl)
theorem dX6_given_29 : decode cX6_given 29 = .ok (.getfield 120, 3) := dk_180 0 120 (dk_at dksX6_given_1 5 rfl rfl)
theorem dX6_given_32 : decode cX6_given 32 = .ok (.if_icmp .le 10, 3) := dk_164 0 10 (dk_at dksX6_given_1 8 rfl rfl)
theorem dX6_given_35 : decode cX6_given 35 = .ok (.aload_n 0, 1) := dk_42 (dk_at dksX6_given_1 11 rfl rfl)
theorem dX6_given_36 : decode cX6_given 36 = .ok (.bipush (-6), 2) := dk_16 250 (dk_at dksX6_given_1 12 rfl rfl)
theorem dX6_given_38 : decode cX6_given 38 = .ok (.invokevirtual 127, 3) := dk_182 0 127 (dk_at dksX6_given_1 14 rfl rfl)
theorem dX6_given_41 : decode cX6_given 41 = .ok (.ireturn, 1) := dk_172 (dk_at dksX6_given_1 17 rfl rfl)
theorem dX6_given_42 : decode cX6_given 42 = .ok (.iload_n 3, 1) := dk_29 (dk_at dksX6_given_1 18 rfl rfl)
theorem dX6_given_43 : decode cX6_given 43 = .ok (.iconst (-1), 1) := dk_2 (dk_at dksX6_given_1 19 rfl rfl)
theorem dX6_given_44 : decode cX6_given 44 = .ok (.if_icmp .lt 8, 3) := dk_161 0 8 (dk_at dksX6_given_1 20 rfl rfl)
theorem dX6_given_47 : decode cX6_given 47 = .ok (.iload_n 3, 1) := dk_29 (dk_at dksX6_given_1 23 rfl rfl)
theorem dX6_given_48 : decode cX6_given 48 = .ok (.iload_n 2, 1) := dk_28 (dk_at dksX6_given_2 0 rfl rfl)
theorem dX6_given_49 : decode cX6_given 49 = .ok (.if_icmp .lt 10, 3) := dk_161 0 10 (dk_at dksX6_given_2 1 rfl rfl)
theorem dX6_given_52 : decode cX6_given 52 = .ok (.aload_n 0, 1) := dk_42 (dk_at dksX6_given_2 4 rfl rfl)
theorem dX6_given_53 : decode cX6_given 53 = .ok (.bipush (-5), 2) := dk_16 251 (dk_at dksX6_given_2 5 rfl rfl)
theorem dX6_given_55 : decode cX6_given 55 = .ok (.invokevirtual 127, 3) := dk_182 0 127 (dk_at dksX6_given_2 7 rfl rfl)
theorem dX6_given_58 : decode cX6_given 58 = .ok (.ireturn, 1) := dk_172 (dk_at dksX6_given_2 10 rfl rfl)
theorem dX6_given_59 : decode cX6_given 59 = .ok (.iconst 0, 1) := dk_3 (dk_at dksX6_given_2 11 rfl rfl)
theorem dX6_given_60 : decode cX6_given 60 = .ok (.istore 4, 2) := dk_54 4 (dk_at dksX6_given_2 12 rfl rfl)
theorem dX6_given_62 : decode cX6_given 62 = .ok (.iload 4, 2) := dk_21 4 (dk_at dksX6_given_2 14 rfl rfl)
theorem dX6_given_64 : decode cX6_given 64 = .ok (.iload_n 2, 1) := dk_28 (dk_at dksX6_given_2 16 rfl rfl)
theorem dX6_given_65 : decode cX6_given 65 = .ok (.if_icmp .ge 48, 3) := dk_162 0 48 (dk_at dksX6_given_2 17 rfl rfl)
theorem dX6_given_68 : decode cX6_given 68 = .ok (.iconst 0, 1) := dk_3 (dk_at dksX6_given_2 20 rfl rfl)
theorem dX6_given_69 : decode cX6_given 69 = .ok (.istore 5, 2) := dk_54 5 (dk_at dksX6_given_2 21 rfl rfl)
theorem dX6_given_71 : decode cX6_given 71 = .ok (.iload 5, 2) := dk_21 5 (dk_at dksX6_given_3 0 rfl rfl)
theorem dX6_given_73 : decode cX6_given 73 = .ok (.aload_n 0, 1) := dk_42 (dk_at dksX6_given_3 2 rfl rfl)
theorem dX6_given_74 : decode cX6_given 74 = .ok (.getfield 120, 3) := dk_180 0 120 (dk_at dksX6_given_3 3 rfl rfl)
theorem dX6_given_77 : decode cX6_given 77 = .ok (.if_icmp .ge 30, 3) := dk_162 0 30 (dk_at dksX6_given_3 6 rfl rfl)
theorem dX6_given_80 : decode cX6_given 80 = .ok (.aload_n 0, 1) := dk_42 (dk_at dksX6_given_3 9 rfl rfl)
theorem dX6_given_81 : decode cX6_given 81 = .ok (.getfield 90, 3) := dk_180 0 90 (dk_at dksX6_given_3 10 rfl rfl)
theorem dX6_given_84 : decode cX6_given 84 = .ok (.bipush 8, 2) := dk_16 8 (dk_at dksX6_given_3 13 rfl rfl)
theorem dX6_given_86 : decode cX6_given 86 = .ok (.iload 4, 2) := dk_21 4 (dk_at dksX6_given_3 15 rfl rfl)
theorem dX6_given_88 : decode cX6_given 88 = .ok (.imul, 1) := dk_104 (dk_at dksX6_given_3 17 rfl rfl)
theorem dX6_given_89 : decode cX6_given 89 = .ok (.iload 5, 2) := dk_21 5 (dk_at dksX6_given_3 18 rfl rfl)
theorem dX6_given_91 : decode cX6_given 91 = .ok (.iadd, 1) := dk_96 (dk_at dksX6_given_3 20 rfl rfl)
theorem dX6_given_92 : decode cX6_given 92 = .ok (.aload_n 0, 1) := dk_42 (dk_at dksX6_given_3 21 rfl rfl)
theorem dX6_given_93 : decode cX6_given 93 = .ok (.iload 4, 2) := dk_21 4 (dk_at dksX6_given_3 22 rfl rfl)
theorem dX6_given_95 : decode cX6_given 95 = .ok (.iload 5, 2) := dk_21 5 (dk_at dksX6_given_4 0 rfl rfl)
theorem dX6_given_97 : decode cX6_given 97 = .ok (.invokevirtual 302, 3) := dk_182 1 46 (dk_at dksX6_given_4 2 rfl rfl)
theorem dX6_given_100 : decode cX6_given 100 = .ok (.iastore, 1) := dk_79 (dk_at dksX6_given_4 5 rfl rfl)
theorem dX6_given_101 : decode cX6_given 101 = .ok (.iinc 5 1, 3) := dk_132 5 1 (dk_at dksX6_given_4 6 rfl rfl)
theorem dX6_given_104 : decode cX6_given 104 = .ok (.goto (-33), 3) := dk_167 255 223 (dk_at dksX6_given_4 9 rfl rfl)
theorem dX6_given_107 : decode cX6_given 107 = .ok (.iinc 4 1, 3) := dk_132 4 1 (dk_at dksX6_given_4 12 rfl rfl)
theorem dX6_given_110 : decode cX6_given 110 = .ok (.goto (-48), 3) := dk_167 255 208 (dk_at dksX6_given_4 15 rfl rfl)
theorem dX6_given_113 : decode cX6_given 113 = .ok (.aload_n 0, 1) := dk_42 (dk_at dksX6_given_4 18 rfl rfl)
theorem dX6_given_114 : decode cX6_given 114 = .ok (.iconst (-1), 1) := dk_2 (dk_at dksX6_given_4 19 rfl rfl)
theorem dX6_given_115 : decode cX6_given 115 = .ok (.putfield 314, 3) := dk_181 1 58 (dk_at dksX6_given_4 20 rfl rfl)
theorem dX6_given_118 : decode cX6_given 118 = .ok (.aload_n 0, 1) := dk_42 (dk_at dksX6_given_4 23 rfl rfl)
theorem dX6_given_119 : decode cX6_given 119 = .ok (.iload_n 1, 1) := dk_27 (dk_at dksX6_given_5 0 rfl rfl)
theorem dX6_given_120 : decode cX6_given 120 = .ok (.iconst 0, 1) := dk_3 (dk_at dksX6_given_5 1 rfl rfl)
theorem dX6_given_121 : decode cX6_given 121 = .ok (.iload_n 2, 1) := dk_28 (dk_at dksX6_given_5 2 rfl rfl)
theorem dX6_given_122 : decode cX6_given 122 = .ok (.iconst 0, 1) := dk_3 (dk_at dksX6_given_5 3 rfl rfl)
theorem dX6_given_123 : decode cX6_given 123 = .ok (.iconst 0, 1) := dk_3 (dk_at dksX6_given_5 4 rfl rfl)
theorem dX6_given_124 : decode cX6_given 124 = .ok (.iconst 0, 1) := dk_3 (dk_at dksX6_given_5 5 rfl rfl)
theorem dX6_given_125 : decode cX6_given 125 = .ok (.sipush 999, 3) := dk_17 3 231 (dk_at dksX6_given_5 6 rfl rfl)
theorem dX6_given_128 : decode cX6_given 128 = .ok (.invokevirtual 317, 3) := dk_182 1 61 (dk_at dksX6_given_5 9 rfl rfl)
theorem dX6_given_131 : decode cX6_given 131 = .ok (.iload_n 3, 1) := dk_29 (dk_at dksX6_given_5 12 rfl rfl)
theorem dX6_given_132 : decode cX6_given 132 = .ok (.iconst (-1), 1) := dk_2 (dk_at dksX6_given_5 13 rfl rfl)
theorem dX6_given_133 : decode cX6_given 133 = .ok (.if_icmp .ne 10, 3) := dk_160 0 10 (dk_at dksX6_given_5 14 rfl rfl)
theorem dX6_given_136 : decode cX6_given 136 = .ok (.aload_n 0, 1) := dk_42 (dk_at dksX6_given_5 17 rfl rfl)
theorem dX6_given_137 : decode cX6_given 137 = .ok (.getfield 314, 3) := dk_180 1 58 (dk_at dksX6_given_5 18 rfl rfl)
theorem dX6_given_140 : decode cX6_given 140 = .ok (.goto 9, 3) := dk_167 0 9 (dk_at dksX6_given_5 21 rfl rfl)
theorem dX6_given_143 : decode cX6_given 143 = .ok (.aload_n 0, 1) := dk_42 (dk_at dksX6_given_6 0 rfl rfl)
theorem dX6_given_144 : decode cX6_given 144 = .ok (.getfield 96, 3) := dk_180 0 96 (dk_at dksX6_given_6 1 rfl rfl)
theorem dX6_given_147 : decode cX6_given 147 = .ok (.iload_n 3, 1) := dk_29 (dk_at dksX6_given_6 4 rfl rfl)
theorem dX6_given_148 : decode cX6_given 148 = .ok (.iaload, 1) := dk_46 (dk_at dksX6_given_6 5 rfl rfl)
theorem dX6_given_149 : decode cX6_given 149 = .ok (.ireturn, 1) := dk_172 (dk_at dksX6_given_6 6 rfl rfl)
abbrev cX6_gives : ByteArray := prog_23_method_67_code
def yX6_gives : MethodName := ⟨RX6, "gives", "(IIIIIII)V"⟩
def dkwX6_gives_7 : List UInt8 := [21, 9, 21, 7, 162, 0, 8, 21, 9, 167, 0, 5, 21, 7, 182, 1, 61, 132, 8, 1, 167, 255, 159, 177]
abbrev dktX6_gives_7 : List UInt8 := dkwX6_gives_7 ++ []
def dkwX6_gives_6 : List UInt8 := [21, 8, 120, 128, 21, 5, 21, 9, 96, 21, 9, 21, 6, 164, 0, 8, 21, 9, 167, 0, 5, 21, 6]
abbrev dktX6_gives_6 : List UInt8 := dkwX6_gives_6 ++ dktX6_gives_7
def dkwX6_gives_5 : List UInt8 := [104, 21, 8, 96, 46, 54, 9, 42, 180, 0, 93, 28, 21, 8, 79, 42, 27, 28, 4, 96, 29, 21, 4, 4]
abbrev dktX6_gives_5 : List UInt8 := dkwX6_gives_5 ++ dktX6_gives_6
def dkwX6_gives_4 : List UInt8 := [162, 0, 94, 21, 4, 21, 8, 122, 4, 126, 4, 160, 0, 6, 167, 0, 74, 42, 180, 0, 90, 16, 8, 28]
abbrev dktX6_gives_4 : List UInt8 := dkwX6_gives_4 ++ dktX6_gives_5
def dkwX6_gives_3 : List UInt8 := [180, 0, 93, 21, 9, 46, 79, 132, 9, 1, 167, 255, 233, 177, 3, 54, 8, 21, 8, 42, 180, 0, 120]
abbrev dktX6_gives_3 : List UInt8 := dkwX6_gives_3 ++ dktX6_gives_4
def dkwX6_gives_2 : List UInt8 := [177, 42, 21, 8, 181, 1, 58, 3, 54, 9, 21, 9, 29, 162, 0, 23, 42, 180, 0, 96, 21, 9, 42]
abbrev dktX6_gives_2 : List UInt8 := dkwX6_gives_2 ++ dktX6_gives_3
def dkwX6_gives_1 : List UInt8 := [21, 6, 21, 7, 100, 54, 8, 42, 180, 1, 58, 2, 159, 0, 13, 21, 8, 42, 180, 1, 58, 161, 0, 4]
abbrev dktX6_gives_1 : List UInt8 := dkwX6_gives_1 ++ dktX6_gives_2
def dkwX6_gives_0 : List UInt8 := [28, 29, 160, 0, 83, 27, 154, 0, 8, 21, 5, 167, 0, 18, 27, 4, 160, 0, 8, 21, 6, 167, 0, 8]
abbrev dktX6_gives_0 : List UInt8 := dkwX6_gives_0 ++ dktX6_gives_1
theorem dksX6_gives_0 : cX6_gives.data.toList.drop 0 = dktX6_gives_0 := by decide +kernel
theorem dksX6_gives_1 : cX6_gives.data.toList.drop 24 = dktX6_gives_1 := dk_seg dksX6_gives_0 24 rfl rfl
theorem dksX6_gives_2 : cX6_gives.data.toList.drop 48 = dktX6_gives_2 := dk_seg dksX6_gives_1 24 rfl rfl
theorem dksX6_gives_3 : cX6_gives.data.toList.drop 71 = dktX6_gives_3 := dk_seg dksX6_gives_2 23 rfl rfl
theorem dksX6_gives_4 : cX6_gives.data.toList.drop 94 = dktX6_gives_4 := dk_seg dksX6_gives_3 23 rfl rfl
theorem dksX6_gives_5 : cX6_gives.data.toList.drop 118 = dktX6_gives_5 := dk_seg dksX6_gives_4 24 rfl rfl
theorem dksX6_gives_6 : cX6_gives.data.toList.drop 142 = dktX6_gives_6 := dk_seg dksX6_gives_5 24 rfl rfl
theorem dksX6_gives_7 : cX6_gives.data.toList.drop 165 = dktX6_gives_7 := dk_seg dksX6_gives_6 23 rfl rfl
theorem dX6_gives_0 : decode cX6_gives 0 = .ok (.iload_n 2, 1) := dk_28 (dk_at dksX6_gives_0 0 rfl rfl)
theorem dX6_gives_1 : decode cX6_gives 1 = .ok (.iload_n 3, 1) := dk_29 (dk_at dksX6_gives_0 1 rfl rfl)
theorem dX6_gives_2 : decode cX6_gives 2 = .ok (.if_icmp .ne 83, 3) := dk_160 0 83 (dk_at dksX6_gives_0 2 rfl rfl)
theorem dX6_gives_5 : decode cX6_gives 5 = .ok (.iload_n 1, 1) := dk_27 (dk_at dksX6_gives_0 5 rfl rfl)
theorem dX6_gives_6 : decode cX6_gives 6 = .ok (.ifCond .ne 8, 3) := dk_154 0 8 (dk_at dksX6_gives_0 6 rfl rfl)
theorem dX6_gives_9 : decode cX6_gives 9 = .ok (.iload 5, 2) := dk_21 5 (dk_at dksX6_gives_0 9 rfl rfl)
theorem dX6_gives_11 : decode cX6_gives 11 = .ok (.goto 18, 3) := dk_167 0 18 (dk_at dksX6_gives_0 11 rfl rfl)
theorem dX6_gives_14 : decode cX6_gives 14 = .ok (.iload_n 1, 1) := dk_27 (dk_at dksX6_gives_0 14 rfl rfl)
theorem dX6_gives_15 : decode cX6_gives 15 = .ok (.iconst 1, 1) := dk_4 (dk_at dksX6_gives_0 15 rfl rfl)
theorem dX6_gives_16 : decode cX6_gives 16 = .ok (.if_icmp .ne 8, 3) := dk_160 0 8 (dk_at dksX6_gives_0 16 rfl rfl)
theorem dX6_gives_19 : decode cX6_gives 19 = .ok (.iload 6, 2) := dk_21 6 (dk_at dksX6_gives_0 19 rfl rfl)
theorem dX6_gives_21 : decode cX6_gives 21 = .ok (.goto 8, 3) := dk_167 0 8 (dk_at dksX6_gives_0 21 rfl rfl)
theorem dX6_gives_24 : decode cX6_gives 24 = .ok (.iload 6, 2) := dk_21 6 (dk_at dksX6_gives_1 0 rfl rfl)
theorem dX6_gives_26 : decode cX6_gives 26 = .ok (.iload 7, 2) := dk_21 7 (dk_at dksX6_gives_1 2 rfl rfl)
theorem dX6_gives_28 : decode cX6_gives 28 = .ok (.isub, 1) := dk_100 (dk_at dksX6_gives_1 4 rfl rfl)
theorem dX6_gives_29 : decode cX6_gives 29 = .ok (.istore 8, 2) := dk_54 8 (dk_at dksX6_gives_1 5 rfl rfl)
theorem dX6_gives_31 : decode cX6_gives 31 = .ok (.aload_n 0, 1) := dk_42 (dk_at dksX6_gives_1 7 rfl rfl)
theorem dX6_gives_32 : decode cX6_gives 32 = .ok (.getfield 314, 3) := dk_180 1 58 (dk_at dksX6_gives_1 8 rfl rfl)
theorem dX6_gives_35 : decode cX6_gives 35 = .ok (.iconst (-1), 1) := dk_2 (dk_at dksX6_gives_1 11 rfl rfl)
theorem dX6_gives_36 : decode cX6_gives 36 = .ok (.if_icmp .eq 13, 3) := dk_159 0 13 (dk_at dksX6_gives_1 12 rfl rfl)
theorem dX6_gives_39 : decode cX6_gives 39 = .ok (.iload 8, 2) := dk_21 8 (dk_at dksX6_gives_1 15 rfl rfl)
theorem dX6_gives_41 : decode cX6_gives 41 = .ok (.aload_n 0, 1) := dk_42 (dk_at dksX6_gives_1 17 rfl rfl)
theorem dX6_gives_42 : decode cX6_gives 42 = .ok (.getfield 314, 3) := dk_180 1 58 (dk_at dksX6_gives_1 18 rfl rfl)
theorem dX6_gives_45 : decode cX6_gives 45 = .ok (.if_icmp .lt 4, 3) := dk_161 0 4 (dk_at dksX6_gives_1 21 rfl rfl)
theorem dX6_gives_48 : decode cX6_gives 48 = .ok (.return_, 1) := dk_177 (dk_at dksX6_gives_2 0 rfl rfl)
theorem dX6_gives_49 : decode cX6_gives 49 = .ok (.aload_n 0, 1) := dk_42 (dk_at dksX6_gives_2 1 rfl rfl)
theorem dX6_gives_50 : decode cX6_gives 50 = .ok (.iload 8, 2) := dk_21 8 (dk_at dksX6_gives_2 2 rfl rfl)
theorem dX6_gives_52 : decode cX6_gives 52 = .ok (.putfield 314, 3) := dk_181 1 58 (dk_at dksX6_gives_2 4 rfl rfl)
theorem dX6_gives_55 : decode cX6_gives 55 = .ok (.iconst 0, 1) := dk_3 (dk_at dksX6_gives_2 7 rfl rfl)
theorem dX6_gives_56 : decode cX6_gives 56 = .ok (.istore 9, 2) := dk_54 9 (dk_at dksX6_gives_2 8 rfl rfl)
theorem dX6_gives_58 : decode cX6_gives 58 = .ok (.iload 9, 2) := dk_21 9 (dk_at dksX6_gives_2 10 rfl rfl)
theorem dX6_gives_60 : decode cX6_gives 60 = .ok (.iload_n 3, 1) := dk_29 (dk_at dksX6_gives_2 12 rfl rfl)
theorem dX6_gives_61 : decode cX6_gives 61 = .ok (.if_icmp .ge 23, 3) := dk_162 0 23 (dk_at dksX6_gives_2 13 rfl rfl)
theorem dX6_gives_64 : decode cX6_gives 64 = .ok (.aload_n 0, 1) := dk_42 (dk_at dksX6_gives_2 16 rfl rfl)
theorem dX6_gives_65 : decode cX6_gives 65 = .ok (.getfield 96, 3) := dk_180 0 96 (dk_at dksX6_gives_2 17 rfl rfl)
theorem dX6_gives_68 : decode cX6_gives 68 = .ok (.iload 9, 2) := dk_21 9 (dk_at dksX6_gives_2 20 rfl rfl)
theorem dX6_gives_70 : decode cX6_gives 70 = .ok (.aload_n 0, 1) := dk_42 (dk_at dksX6_gives_2 22 rfl rfl)
theorem dX6_gives_71 : decode cX6_gives 71 = .ok (.getfield 93, 3) := dk_180 0 93 (dk_at dksX6_gives_3 0 rfl rfl)
theorem dX6_gives_74 : decode cX6_gives 74 = .ok (.iload 9, 2) := dk_21 9 (dk_at dksX6_gives_3 3 rfl rfl)
theorem dX6_gives_76 : decode cX6_gives 76 = .ok (.iaload, 1) := dk_46 (dk_at dksX6_gives_3 5 rfl rfl)
theorem dX6_gives_77 : decode cX6_gives 77 = .ok (.iastore, 1) := dk_79 (dk_at dksX6_gives_3 6 rfl rfl)
theorem dX6_gives_78 : decode cX6_gives 78 = .ok (.iinc 9 1, 3) := dk_132 9 1 (dk_at dksX6_gives_3 7 rfl rfl)
theorem dX6_gives_81 : decode cX6_gives 81 = .ok (.goto (-23), 3) := dk_167 255 233 (dk_at dksX6_gives_3 10 rfl rfl)
theorem dX6_gives_84 : decode cX6_gives 84 = .ok (.return_, 1) := dk_177 (dk_at dksX6_gives_3 13 rfl rfl)
theorem dX6_gives_85 : decode cX6_gives 85 = .ok (.iconst 0, 1) := dk_3 (dk_at dksX6_gives_3 14 rfl rfl)
theorem dX6_gives_86 : decode cX6_gives 86 = .ok (.istore 8, 2) := dk_54 8 (dk_at dksX6_gives_3 15 rfl rfl)
theorem dX6_gives_88 : decode cX6_gives 88 = .ok (.iload 8, 2) := dk_21 8 (dk_at dksX6_gives_3 17 rfl rfl)
theorem dX6_gives_90 : decode cX6_gives 90 = .ok (.aload_n 0, 1) := dk_42 (dk_at dksX6_gives_3 19 rfl rfl)
theorem dX6_gives_91 : decode cX6_gives 91 = .ok (.getfield 120, 3) := dk_180 0 120 (dk_at dksX6_gives_3 20 rfl rfl)
theorem dX6_gives_94 : decode cX6_gives 94 = .ok (.if_icmp .ge 94, 3) := dk_162 0 94 (dk_at dksX6_gives_4 0 rfl rfl)
theorem dX6_gives_97 : decode cX6_gives 97 = .ok (.iload 4, 2) := dk_21 4 (dk_at dksX6_gives_4 3 rfl rfl)
theorem dX6_gives_99 : decode cX6_gives 99 = .ok (.iload 8, 2) := dk_21 8 (dk_at dksX6_gives_4 5 rfl rfl)
theorem dX6_gives_101 : decode cX6_gives 101 = .ok (.ishr, 1) := dk_122 (dk_at dksX6_gives_4 7 rfl rfl)
theorem dX6_gives_102 : decode cX6_gives 102 = .ok (.iconst 1, 1) := dk_4 (dk_at dksX6_gives_4 8 rfl rfl)
theorem dX6_gives_103 : decode cX6_gives 103 = .ok (.iand, 1) := dk_126 (dk_at dksX6_gives_4 9 rfl rfl)
theorem dX6_gives_104 : decode cX6_gives 104 = .ok (.iconst 1, 1) := dk_4 (dk_at dksX6_gives_4 10 rfl rfl)
theorem dX6_gives_105 : decode cX6_gives 105 = .ok (.if_icmp .ne 6, 3) := dk_160 0 6 (dk_at dksX6_gives_4 11 rfl rfl)
theorem dX6_gives_108 : decode cX6_gives 108 = .ok (.goto 74, 3) := dk_167 0 74 (dk_at dksX6_gives_4 14 rfl rfl)
theorem dX6_gives_111 : decode cX6_gives 111 = .ok (.aload_n 0, 1) := dk_42 (dk_at dksX6_gives_4 17 rfl rfl)
theorem dX6_gives_112 : decode cX6_gives 112 = .ok (.getfield 90, 3) := dk_180 0 90 (dk_at dksX6_gives_4 18 rfl rfl)
theorem dX6_gives_115 : decode cX6_gives 115 = .ok (.bipush 8, 2) := dk_16 8 (dk_at dksX6_gives_4 21 rfl rfl)
theorem dX6_gives_117 : decode cX6_gives 117 = .ok (.iload_n 2, 1) := dk_28 (dk_at dksX6_gives_4 23 rfl rfl)
theorem dX6_gives_118 : decode cX6_gives 118 = .ok (.imul, 1) := dk_104 (dk_at dksX6_gives_5 0 rfl rfl)
theorem dX6_gives_119 : decode cX6_gives 119 = .ok (.iload 8, 2) := dk_21 8 (dk_at dksX6_gives_5 1 rfl rfl)
theorem dX6_gives_121 : decode cX6_gives 121 = .ok (.iadd, 1) := dk_96 (dk_at dksX6_gives_5 3 rfl rfl)
theorem dX6_gives_122 : decode cX6_gives 122 = .ok (.iaload, 1) := dk_46 (dk_at dksX6_gives_5 4 rfl rfl)
theorem dX6_gives_123 : decode cX6_gives 123 = .ok (.istore 9, 2) := dk_54 9 (dk_at dksX6_gives_5 5 rfl rfl)
theorem dX6_gives_125 : decode cX6_gives 125 = .ok (.aload_n 0, 1) := dk_42 (dk_at dksX6_gives_5 7 rfl rfl)
theorem dX6_gives_126 : decode cX6_gives 126 = .ok (.getfield 93, 3) := dk_180 0 93 (dk_at dksX6_gives_5 8 rfl rfl)
theorem dX6_gives_129 : decode cX6_gives 129 = .ok (.iload_n 2, 1) := dk_28 (dk_at dksX6_gives_5 11 rfl rfl)
theorem dX6_gives_130 : decode cX6_gives 130 = .ok (.iload 8, 2) := dk_21 8 (dk_at dksX6_gives_5 12 rfl rfl)
theorem dX6_gives_132 : decode cX6_gives 132 = .ok (.iastore, 1) := dk_79 (dk_at dksX6_gives_5 14 rfl rfl)
theorem dX6_gives_133 : decode cX6_gives 133 = .ok (.aload_n 0, 1) := dk_42 (dk_at dksX6_gives_5 15 rfl rfl)
theorem dX6_gives_134 : decode cX6_gives 134 = .ok (.iload_n 1, 1) := dk_27 (dk_at dksX6_gives_5 16 rfl rfl)
theorem dX6_gives_135 : decode cX6_gives 135 = .ok (.iload_n 2, 1) := dk_28 (dk_at dksX6_gives_5 17 rfl rfl)
theorem dX6_gives_136 : decode cX6_gives 136 = .ok (.iconst 1, 1) := dk_4 (dk_at dksX6_gives_5 18 rfl rfl)
theorem dX6_gives_137 : decode cX6_gives 137 = .ok (.iadd, 1) := dk_96 (dk_at dksX6_gives_5 19 rfl rfl)
theorem dX6_gives_138 : decode cX6_gives 138 = .ok (.iload_n 3, 1) := dk_29 (dk_at dksX6_gives_5 20 rfl rfl)
theorem dX6_gives_139 : decode cX6_gives 139 = .ok (.iload 4, 2) := dk_21 4 (dk_at dksX6_gives_5 21 rfl rfl)
theorem dX6_gives_141 : decode cX6_gives 141 = .ok (.iconst 1, 1) := dk_4 (dk_at dksX6_gives_5 23 rfl rfl)
theorem dX6_gives_142 : decode cX6_gives 142 = .ok (.iload 8, 2) := dk_21 8 (dk_at dksX6_gives_6 0 rfl rfl)
theorem dX6_gives_144 : decode cX6_gives 144 = .ok (.ishl, 1) := dk_120 (dk_at dksX6_gives_6 2 rfl rfl)
theorem dX6_gives_145 : decode cX6_gives 145 = .ok (.ior, 1) := dk_128 (dk_at dksX6_gives_6 3 rfl rfl)
theorem dX6_gives_146 : decode cX6_gives 146 = .ok (.iload 5, 2) := dk_21 5 (dk_at dksX6_gives_6 4 rfl rfl)
theorem dX6_gives_148 : decode cX6_gives 148 = .ok (.iload 9, 2) := dk_21 9 (dk_at dksX6_gives_6 6 rfl rfl)
theorem dX6_gives_150 : decode cX6_gives 150 = .ok (.iadd, 1) := dk_96 (dk_at dksX6_gives_6 8 rfl rfl)
theorem dX6_gives_151 : decode cX6_gives 151 = .ok (.iload 9, 2) := dk_21 9 (dk_at dksX6_gives_6 9 rfl rfl)
theorem dX6_gives_153 : decode cX6_gives 153 = .ok (.iload 6, 2) := dk_21 6 (dk_at dksX6_gives_6 11 rfl rfl)
theorem dX6_gives_155 : decode cX6_gives 155 = .ok (.if_icmp .le 8, 3) := dk_164 0 8 (dk_at dksX6_gives_6 13 rfl rfl)
theorem dX6_gives_158 : decode cX6_gives 158 = .ok (.iload 9, 2) := dk_21 9 (dk_at dksX6_gives_6 16 rfl rfl)
theorem dX6_gives_160 : decode cX6_gives 160 = .ok (.goto 5, 3) := dk_167 0 5 (dk_at dksX6_gives_6 18 rfl rfl)
theorem dX6_gives_163 : decode cX6_gives 163 = .ok (.iload 6, 2) := dk_21 6 (dk_at dksX6_gives_6 21 rfl rfl)
theorem dX6_gives_165 : decode cX6_gives 165 = .ok (.iload 9, 2) := dk_21 9 (dk_at dksX6_gives_7 0 rfl rfl)
theorem dX6_gives_167 : decode cX6_gives 167 = .ok (.iload 7, 2) := dk_21 7 (dk_at dksX6_gives_7 2 rfl rfl)
theorem dX6_gives_169 : decode cX6_gives 169 = .ok (.if_icmp .ge 8, 3) := dk_162 0 8 (dk_at dksX6_gives_7 4 rfl rfl)
theorem dX6_gives_172 : decode cX6_gives 172 = .ok (.iload 9, 2) := dk_21 9 (dk_at dksX6_gives_7 7 rfl rfl)
theorem dX6_gives_174 : decode cX6_gives 174 = .ok (.goto 5, 3) := dk_167 0 5 (dk_at dksX6_gives_7 9 rfl rfl)
theorem dX6_gives_177 : decode cX6_gives 177 = .ok (.iload 7, 2) := dk_21 7 (dk_at dksX6_gives_7 12 rfl rfl)
theorem dX6_gives_179 : decode cX6_gives 179 = .ok (.invokevirtual 317, 3) := dk_182 1 61 (dk_at dksX6_gives_7 14 rfl rfl)
theorem dX6_gives_182 : decode cX6_gives 182 = .ok (.iinc 8 1, 3) := dk_132 8 1 (dk_at dksX6_gives_7 17 rfl rfl)
theorem dX6_gives_185 : decode cX6_gives 185 = .ok (.goto (-97), 3) := dk_167 255 159 (dk_at dksX6_gives_7 20 rfl rfl)
theorem dX6_gives_188 : decode cX6_gives 188 = .ok (.return_, 1) := dk_177 (dk_at dksX6_gives_7 23 rfl rfl)
abbrev cX6_two : ByteArray := prog_23_method_70_code
def yX6_two : MethodName := ⟨RX6, "two", "(III)I"⟩
def dkwX6_two_2 : List UInt8 := [182, 1, 65, 172]
abbrev dktX6_two_2 : List UInt8 := dkwX6_two_2 ++ []
def dkwX6_two_1 : List UInt8 := [42, 2, 182, 0, 127, 172, 27, 28, 160, 0, 12, 42, 16, 250, 182, 0, 127, 167, 0, 10, 42, 27, 28, 29]
abbrev dktX6_two_1 : List UInt8 := dkwX6_two_1 ++ dktX6_two_2
def dkwX6_two_0 : List UInt8 := [42, 27, 182, 0, 131, 153, 0, 19, 42, 28, 182, 0, 131, 153, 0, 11, 42, 29, 182, 0, 156, 154, 0, 9]
abbrev dktX6_two_0 : List UInt8 := dkwX6_two_0 ++ dktX6_two_1
theorem dksX6_two_0 : cX6_two.data.toList.drop 0 = dktX6_two_0 := by decide +kernel
theorem dksX6_two_1 : cX6_two.data.toList.drop 24 = dktX6_two_1 := dk_seg dksX6_two_0 24 rfl rfl
theorem dksX6_two_2 : cX6_two.data.toList.drop 48 = dktX6_two_2 := dk_seg dksX6_two_1 24 rfl rfl
theorem dX6_two_0 : decode cX6_two 0 = .ok (.aload_n 0, 1) := dk_42 (dk_at dksX6_two_0 0 rfl rfl)
theorem dX6_two_1 : decode cX6_two 1 = .ok (.iload_n 1, 1) := dk_27 (dk_at dksX6_two_0 1 rfl rfl)
theorem dX6_two_2 : decode cX6_two 2 = .ok (.invokevirtual 131, 3) := dk_182 0 131 (dk_at dksX6_two_0 2 rfl rfl)
theorem dX6_two_5 : decode cX6_two 5 = .ok (.ifCond .eq 19, 3) := dk_153 0 19 (dk_at dksX6_two_0 5 rfl rfl)
theorem dX6_two_8 : decode cX6_two 8 = .ok (.aload_n 0, 1) := dk_42 (dk_at dksX6_two_0 8 rfl rfl)
theorem dX6_two_9 : decode cX6_two 9 = .ok (.iload_n 2, 1) := dk_28 (dk_at dksX6_two_0 9 rfl rfl)
theorem dX6_two_10 : decode cX6_two 10 = .ok (.invokevirtual 131, 3) := dk_182 0 131 (dk_at dksX6_two_0 10 rfl rfl)
theorem dX6_two_13 : decode cX6_two 13 = .ok (.ifCond .eq 11, 3) := dk_153 0 11 (dk_at dksX6_two_0 13 rfl rfl)
theorem dX6_two_16 : decode cX6_two 16 = .ok (.aload_n 0, 1) := dk_42 (dk_at dksX6_two_0 16 rfl rfl)
theorem dX6_two_17 : decode cX6_two 17 = .ok (.iload_n 3, 1) := dk_29 (dk_at dksX6_two_0 17 rfl rfl)
theorem dX6_two_18 : decode cX6_two 18 = .ok (.invokevirtual 156, 3) := dk_182 0 156 (dk_at dksX6_two_0 18 rfl rfl)
theorem dX6_two_21 : decode cX6_two 21 = .ok (.ifCond .ne 9, 3) := dk_154 0 9 (dk_at dksX6_two_0 21 rfl rfl)
theorem dX6_two_24 : decode cX6_two 24 = .ok (.aload_n 0, 1) := dk_42 (dk_at dksX6_two_1 0 rfl rfl)
theorem dX6_two_25 : decode cX6_two 25 = .ok (.iconst (-1), 1) := dk_2 (dk_at dksX6_two_1 1 rfl rfl)
theorem dX6_two_26 : decode cX6_two 26 = .ok (.invokevirtual 127, 3) := dk_182 0 127 (dk_at dksX6_two_1 2 rfl rfl)
theorem dX6_two_29 : decode cX6_two 29 = .ok (.ireturn, 1) := dk_172 (dk_at dksX6_two_1 5 rfl rfl)
theorem dX6_two_30 : decode cX6_two 30 = .ok (.iload_n 1, 1) := dk_27 (dk_at dksX6_two_1 6 rfl rfl)
theorem dX6_two_31 : decode cX6_two 31 = .ok (.iload_n 2, 1) := dk_28 (dk_at dksX6_two_1 7 rfl rfl)
theorem dX6_two_32 : decode cX6_two 32 = .ok (.if_icmp .ne 12, 3) := dk_160 0 12 (dk_at dksX6_two_1 8 rfl rfl)
theorem dX6_two_35 : decode cX6_two 35 = .ok (.aload_n 0, 1) := dk_42 (dk_at dksX6_two_1 11 rfl rfl)
theorem dX6_two_36 : decode cX6_two 36 = .ok (.bipush (-6), 2) := dk_16 250 (dk_at dksX6_two_1 12 rfl rfl)
theorem dX6_two_38 : decode cX6_two 38 = .ok (.invokevirtual 127, 3) := dk_182 0 127 (dk_at dksX6_two_1 14 rfl rfl)
theorem dX6_two_41 : decode cX6_two 41 = .ok (.goto 10, 3) := dk_167 0 10 (dk_at dksX6_two_1 17 rfl rfl)
theorem dX6_two_44 : decode cX6_two 44 = .ok (.aload_n 0, 1) := dk_42 (dk_at dksX6_two_1 20 rfl rfl)
theorem dX6_two_45 : decode cX6_two 45 = .ok (.iload_n 1, 1) := dk_27 (dk_at dksX6_two_1 21 rfl rfl)
theorem dX6_two_46 : decode cX6_two 46 = .ok (.iload_n 2, 1) := dk_28 (dk_at dksX6_two_1 22 rfl rfl)
theorem dX6_two_47 : decode cX6_two 47 = .ok (.iload_n 3, 1) := dk_29 (dk_at dksX6_two_1 23 rfl rfl)
theorem dX6_two_48 : decode cX6_two 48 = .ok (.invokevirtual 321, 3) := dk_182 1 65 (dk_at dksX6_two_2 0 rfl rfl)
theorem dX6_two_51 : decode cX6_two 51 = .ok (.ireturn, 1) := dk_172 (dk_at dksX6_two_2 3 rfl rfl)
abbrev cX6_twoIn : ByteArray := prog_23_method_69_code
def yX6_twoIn : MethodName := ⟨RX6, "twoIn", "(III)I"⟩
def dkwX6_twoIn_3 : List UInt8 := [42, 182, 1, 34, 172]
abbrev dktX6_twoIn_3 : List UInt8 := dkwX6_twoIn_3 ++ []
def dkwX6_twoIn_2 : List UInt8 := [180, 0, 245, 42, 42, 180, 0, 38, 27, 46, 42, 180, 0, 38, 28, 46, 100, 182, 0, 242, 96, 181, 0, 245]
abbrev dktX6_twoIn_2 : List UInt8 := dkwX6_twoIn_2 ++ dktX6_twoIn_3
def dkwX6_twoIn_1 : List UInt8 := [180, 0, 38, 28, 46, 167, 0, 9, 42, 180, 0, 38, 27, 46, 181, 0, 230, 42, 29, 182, 0, 239, 42, 89]
abbrev dktX6_twoIn_1 : List UInt8 := dkwX6_twoIn_1 ++ dktX6_twoIn_2
def dkwX6_twoIn_0 : List UInt8 := [42, 27, 182, 0, 134, 42, 42, 180, 0, 38, 28, 46, 42, 180, 0, 38, 27, 46, 162, 0, 12, 42]
abbrev dktX6_twoIn_0 : List UInt8 := dkwX6_twoIn_0 ++ dktX6_twoIn_1
theorem dksX6_twoIn_0 : cX6_twoIn.data.toList.drop 0 = dktX6_twoIn_0 := by decide +kernel
theorem dksX6_twoIn_1 : cX6_twoIn.data.toList.drop 22 = dktX6_twoIn_1 := dk_seg dksX6_twoIn_0 22 rfl rfl
theorem dksX6_twoIn_2 : cX6_twoIn.data.toList.drop 46 = dktX6_twoIn_2 := dk_seg dksX6_twoIn_1 24 rfl rfl
theorem dksX6_twoIn_3 : cX6_twoIn.data.toList.drop 70 = dktX6_twoIn_3 := dk_seg dksX6_twoIn_2 24 rfl rfl
theorem dX6_twoIn_0 : decode cX6_twoIn 0 = .ok (.aload_n 0, 1) := dk_42 (dk_at dksX6_twoIn_0 0 rfl rfl)
theorem dX6_twoIn_1 : decode cX6_twoIn 1 = .ok (.iload_n 1, 1) := dk_27 (dk_at dksX6_twoIn_0 1 rfl rfl)
theorem dX6_twoIn_2 : decode cX6_twoIn 2 = .ok (.invokevirtual 134, 3) := dk_182 0 134 (dk_at dksX6_twoIn_0 2 rfl rfl)
theorem dX6_twoIn_5 : decode cX6_twoIn 5 = .ok (.aload_n 0, 1) := dk_42 (dk_at dksX6_twoIn_0 5 rfl rfl)
theorem dX6_twoIn_6 : decode cX6_twoIn 6 = .ok (.aload_n 0, 1) := dk_42 (dk_at dksX6_twoIn_0 6 rfl rfl)
theorem dX6_twoIn_7 : decode cX6_twoIn 7 = .ok (.getfield 38, 3) := dk_180 0 38 (dk_at dksX6_twoIn_0 7 rfl rfl)
theorem dX6_twoIn_10 : decode cX6_twoIn 10 = .ok (.iload_n 2, 1) := dk_28 (dk_at dksX6_twoIn_0 10 rfl rfl)
theorem dX6_twoIn_11 : decode cX6_twoIn 11 = .ok (.iaload, 1) := dk_46 (dk_at dksX6_twoIn_0 11 rfl rfl)
theorem dX6_twoIn_12 : decode cX6_twoIn 12 = .ok (.aload_n 0, 1) := dk_42 (dk_at dksX6_twoIn_0 12 rfl rfl)
theorem dX6_twoIn_13 : decode cX6_twoIn 13 = .ok (.getfield 38, 3) := dk_180 0 38 (dk_at dksX6_twoIn_0 13 rfl rfl)
theorem dX6_twoIn_16 : decode cX6_twoIn 16 = .ok (.iload_n 1, 1) := dk_27 (dk_at dksX6_twoIn_0 16 rfl rfl)
theorem dX6_twoIn_17 : decode cX6_twoIn 17 = .ok (.iaload, 1) := dk_46 (dk_at dksX6_twoIn_0 17 rfl rfl)
theorem dX6_twoIn_18 : decode cX6_twoIn 18 = .ok (.if_icmp .ge 12, 3) := dk_162 0 12 (dk_at dksX6_twoIn_0 18 rfl rfl)
theorem dX6_twoIn_21 : decode cX6_twoIn 21 = .ok (.aload_n 0, 1) := dk_42 (dk_at dksX6_twoIn_0 21 rfl rfl)
theorem dX6_twoIn_22 : decode cX6_twoIn 22 = .ok (.getfield 38, 3) := dk_180 0 38 (dk_at dksX6_twoIn_1 0 rfl rfl)
theorem dX6_twoIn_25 : decode cX6_twoIn 25 = .ok (.iload_n 2, 1) := dk_28 (dk_at dksX6_twoIn_1 3 rfl rfl)
theorem dX6_twoIn_26 : decode cX6_twoIn 26 = .ok (.iaload, 1) := dk_46 (dk_at dksX6_twoIn_1 4 rfl rfl)
theorem dX6_twoIn_27 : decode cX6_twoIn 27 = .ok (.goto 9, 3) := dk_167 0 9 (dk_at dksX6_twoIn_1 5 rfl rfl)
theorem dX6_twoIn_30 : decode cX6_twoIn 30 = .ok (.aload_n 0, 1) := dk_42 (dk_at dksX6_twoIn_1 8 rfl rfl)
theorem dX6_twoIn_31 : decode cX6_twoIn 31 = .ok (.getfield 38, 3) := dk_180 0 38 (dk_at dksX6_twoIn_1 9 rfl rfl)
theorem dX6_twoIn_34 : decode cX6_twoIn 34 = .ok (.iload_n 1, 1) := dk_27 (dk_at dksX6_twoIn_1 12 rfl rfl)
theorem dX6_twoIn_35 : decode cX6_twoIn 35 = .ok (.iaload, 1) := dk_46 (dk_at dksX6_twoIn_1 13 rfl rfl)
theorem dX6_twoIn_36 : decode cX6_twoIn 36 = .ok (.putfield 230, 3) := dk_181 0 230 (dk_at dksX6_twoIn_1 14 rfl rfl)
theorem dX6_twoIn_39 : decode cX6_twoIn 39 = .ok (.aload_n 0, 1) := dk_42 (dk_at dksX6_twoIn_1 17 rfl rfl)
theorem dX6_twoIn_40 : decode cX6_twoIn 40 = .ok (.iload_n 3, 1) := dk_29 (dk_at dksX6_twoIn_1 18 rfl rfl)
theorem dX6_twoIn_41 : decode cX6_twoIn 41 = .ok (.invokevirtual 239, 3) := dk_182 0 239 (dk_at dksX6_twoIn_1 19 rfl rfl)
theorem dX6_twoIn_44 : decode cX6_twoIn 44 = .ok (.aload_n 0, 1) := dk_42 (dk_at dksX6_twoIn_1 22 rfl rfl)
theorem dX6_twoIn_45 : decode cX6_twoIn 45 = .ok (.dup, 1) := dk_89 (dk_at dksX6_twoIn_1 23 rfl rfl)
theorem dX6_twoIn_46 : decode cX6_twoIn 46 = .ok (.getfield 245, 3) := dk_180 0 245 (dk_at dksX6_twoIn_2 0 rfl rfl)
theorem dX6_twoIn_49 : decode cX6_twoIn 49 = .ok (.aload_n 0, 1) := dk_42 (dk_at dksX6_twoIn_2 3 rfl rfl)
theorem dX6_twoIn_50 : decode cX6_twoIn 50 = .ok (.aload_n 0, 1) := dk_42 (dk_at dksX6_twoIn_2 4 rfl rfl)
theorem dX6_twoIn_51 : decode cX6_twoIn 51 = .ok (.getfield 38, 3) := dk_180 0 38 (dk_at dksX6_twoIn_2 5 rfl rfl)
theorem dX6_twoIn_54 : decode cX6_twoIn 54 = .ok (.iload_n 1, 1) := dk_27 (dk_at dksX6_twoIn_2 8 rfl rfl)
theorem dX6_twoIn_55 : decode cX6_twoIn 55 = .ok (.iaload, 1) := dk_46 (dk_at dksX6_twoIn_2 9 rfl rfl)
theorem dX6_twoIn_56 : decode cX6_twoIn 56 = .ok (.aload_n 0, 1) := dk_42 (dk_at dksX6_twoIn_2 10 rfl rfl)
theorem dX6_twoIn_57 : decode cX6_twoIn 57 = .ok (.getfield 38, 3) := dk_180 0 38 (dk_at dksX6_twoIn_2 11 rfl rfl)
theorem dX6_twoIn_60 : decode cX6_twoIn 60 = .ok (.iload_n 2, 1) := dk_28 (dk_at dksX6_twoIn_2 14 rfl rfl)
theorem dX6_twoIn_61 : decode cX6_twoIn 61 = .ok (.iaload, 1) := dk_46 (dk_at dksX6_twoIn_2 15 rfl rfl)
theorem dX6_twoIn_62 : decode cX6_twoIn 62 = .ok (.isub, 1) := dk_100 (dk_at dksX6_twoIn_2 16 rfl rfl)
theorem dX6_twoIn_63 : decode cX6_twoIn 63 = .ok (.invokevirtual 242, 3) := dk_182 0 242 (dk_at dksX6_twoIn_2 17 rfl rfl)
theorem dX6_twoIn_66 : decode cX6_twoIn 66 = .ok (.iadd, 1) := dk_96 (dk_at dksX6_twoIn_2 20 rfl rfl)
theorem dX6_twoIn_67 : decode cX6_twoIn 67 = .ok (.putfield 245, 3) := dk_181 0 245 (dk_at dksX6_twoIn_2 21 rfl rfl)
theorem dX6_twoIn_70 : decode cX6_twoIn 70 = .ok (.aload_n 0, 1) := dk_42 (dk_at dksX6_twoIn_3 0 rfl rfl)
theorem dX6_twoIn_71 : decode cX6_twoIn 71 = .ok (.invokevirtual 290, 3) := dk_182 1 34 (dk_at dksX6_twoIn_3 1 rfl rfl)
theorem dX6_twoIn_74 : decode cX6_twoIn 74 = .ok (.ireturn, 1) := dk_172 (dk_at dksX6_twoIn_3 4 rfl rfl)
abbrev cX6_pair : ByteArray := prog_23_method_71_code
def yX6_pair : MethodName := ⟨RX6, "pair", "()I"⟩
def dkwX6_pair_4 : List UInt8 := [167, 255, 204, 132, 3, 1, 167, 255, 185, 27, 172]
abbrev dktX6_pair_4 : List UInt8 := dkwX6_pair_4 ++ []
def dkwX6_pair_3 : List UInt8 := [21, 5, 28, 161, 0, 6, 167, 0, 14, 16, 100, 29, 104, 21, 4, 96, 60, 21, 5, 61, 132, 4, 1]
abbrev dktX6_pair_3 : List UInt8 := dkwX6_pair_3 ++ dktX6_pair_4
def dkwX6_pair_2 : List UInt8 := [162, 0, 49, 42, 29, 21, 4, 42, 180, 0, 41, 29, 46, 182, 1, 65, 54, 5, 27, 2, 159, 0, 12]
abbrev dktX6_pair_2 : List UInt8 := dkwX6_pair_2 ++ dktX6_pair_3
def dkwX6_pair_1 : List UInt8 := [3, 61, 3, 62, 29, 42, 180, 0, 117, 162, 0, 69, 29, 4, 96, 54, 4, 21, 4, 42, 180, 0, 117]
abbrev dktX6_pair_1 : List UInt8 := dkwX6_pair_1 ++ dktX6_pair_2
def dkwX6_pair_0 : List UInt8 := [42, 180, 0, 117, 5, 161, 0, 10, 42, 180, 0, 120, 154, 0, 10, 42, 16, 251, 182, 0, 127, 172, 2, 60]
abbrev dktX6_pair_0 : List UInt8 := dkwX6_pair_0 ++ dktX6_pair_1
theorem dksX6_pair_0 : cX6_pair.data.toList.drop 0 = dktX6_pair_0 := by decide +kernel
theorem dksX6_pair_1 : cX6_pair.data.toList.drop 24 = dktX6_pair_1 := dk_seg dksX6_pair_0 24 rfl rfl
theorem dksX6_pair_2 : cX6_pair.data.toList.drop 47 = dktX6_pair_2 := dk_seg dksX6_pair_1 23 rfl rfl
theorem dksX6_pair_3 : cX6_pair.data.toList.drop 70 = dktX6_pair_3 := dk_seg dksX6_pair_2 23 rfl rfl
theorem dksX6_pair_4 : cX6_pair.data.toList.drop 93 = dktX6_pair_4 := dk_seg dksX6_pair_3 23 rfl rfl
theorem dX6_pair_0 : decode cX6_pair 0 = .ok (.aload_n 0, 1) := dk_42 (dk_at dksX6_pair_0 0 rfl rfl)
theorem dX6_pair_1 : decode cX6_pair 1 = .ok (.getfield 117, 3) := dk_180 0 117 (dk_at dksX6_pair_0 1 rfl rfl)
theorem dX6_pair_4 : decode cX6_pair 4 = .ok (.iconst 2, 1) := dk_5 (dk_at dksX6_pair_0 4 rfl rfl)
theorem dX6_pair_5 : decode cX6_pair 5 = .ok (.if_icmp .lt 10, 3) := dk_161 0 10 (dk_at dksX6_pair_0 5 rfl rfl)
theorem dX6_pair_8 : decode cX6_pair 8 = .ok (.aload_n 0, 1) := dk_42 (dk_at dksX6_pair_0 8 rfl rfl)
theorem dX6_pair_9 : decode cX6_pair 9 = .ok (.getfield 120, 3) := dk_180 0 120 (dk_at dksX6_pair_0 9 rfl rfl)
theorem dX6_pair_12 : decode cX6_pair 12 = .ok (.ifCond .ne 10, 3) := dk_154 0 10 (dk_at dksX6_pair_0 12 rfl rfl)
theorem dX6_pair_15 : decode cX6_pair 15 = .ok (.aload_n 0, 1) := dk_42 (dk_at dksX6_pair_0 15 rfl rfl)
theorem dX6_pair_16 : decode cX6_pair 16 = .ok (.bipush (-5), 2) := dk_16 251 (dk_at dksX6_pair_0 16 rfl rfl)
theorem dX6_pair_18 : decode cX6_pair 18 = .ok (.invokevirtual 127, 3) := dk_182 0 127 (dk_at dksX6_pair_0 18 rfl rfl)
theorem dX6_pair_21 : decode cX6_pair 21 = .ok (.ireturn, 1) := dk_172 (dk_at dksX6_pair_0 21 rfl rfl)
theorem dX6_pair_22 : decode cX6_pair 22 = .ok (.iconst (-1), 1) := dk_2 (dk_at dksX6_pair_0 22 rfl rfl)
theorem dX6_pair_23 : decode cX6_pair 23 = .ok (.istore_n 1, 1) := dk_60 (dk_at dksX6_pair_0 23 rfl rfl)
theorem dX6_pair_24 : decode cX6_pair 24 = .ok (.iconst 0, 1) := dk_3 (dk_at dksX6_pair_1 0 rfl rfl)
theorem dX6_pair_25 : decode cX6_pair 25 = .ok (.istore_n 2, 1) := dk_61 (dk_at dksX6_pair_1 1 rfl rfl)
theorem dX6_pair_26 : decode cX6_pair 26 = .ok (.iconst 0, 1) := dk_3 (dk_at dksX6_pair_1 2 rfl rfl)
theorem dX6_pair_27 : decode cX6_pair 27 = .ok (.istore_n 3, 1) := dk_62 (dk_at dksX6_pair_1 3 rfl rfl)
theorem dX6_pair_28 : decode cX6_pair 28 = .ok (.iload_n 3, 1) := dk_29 (dk_at dksX6_pair_1 4 rfl rfl)
theorem dX6_pair_29 : decode cX6_pair 29 = .ok (.aload_n 0, 1) := dk_42 (dk_at dksX6_pair_1 5 rfl rfl)
theorem dX6_pair_30 : decode cX6_pair 30 = .ok (.getfield 117, 3) := dk_180 0 117 (dk_at dksX6_pair_1 6 rfl rfl)
theorem dX6_pair_33 : decode cX6_pair 33 = .ok (.if_icmp .ge 69, 3) := dk_162 0 69 (dk_at dksX6_pair_1 9 rfl rfl)
theorem dX6_pair_36 : decode cX6_pair 36 = .ok (.iload_n 3, 1) := dk_29 (dk_at dksX6_pair_1 12 rfl rfl)
theorem dX6_pair_37 : decode cX6_pair 37 = .ok (.iconst 1, 1) := dk_4 (dk_at dksX6_pair_1 13 rfl rfl)
theorem dX6_pair_38 : decode cX6_pair 38 = .ok (.iadd, 1) := dk_96 (dk_at dksX6_pair_1 14 rfl rfl)
theorem dX6_pair_39 : decode cX6_pair 39 = .ok (.istore 4, 2) := dk_54 4 (dk_at dksX6_pair_1 15 rfl rfl)
theorem dX6_pair_41 : decode cX6_pair 41 = .ok (.iload 4, 2) := dk_21 4 (dk_at dksX6_pair_1 17 rfl rfl)
theorem dX6_pair_43 : decode cX6_pair 43 = .ok (.aload_n 0, 1) := dk_42 (dk_at dksX6_pair_1 19 rfl rfl)
theorem dX6_pair_44 : decode cX6_pair 44 = .ok (.getfield 117, 3) := dk_180 0 117 (dk_at dksX6_pair_1 20 rfl rfl)
theorem dX6_pair_47 : decode cX6_pair 47 = .ok (.if_icmp .ge 49, 3) := dk_162 0 49 (dk_at dksX6_pair_2 0 rfl rfl)
theorem dX6_pair_50 : decode cX6_pair 50 = .ok (.aload_n 0, 1) := dk_42 (dk_at dksX6_pair_2 3 rfl rfl)
theorem dX6_pair_51 : decode cX6_pair 51 = .ok (.iload_n 3, 1) := dk_29 (dk_at dksX6_pair_2 4 rfl rfl)
theorem dX6_pair_52 : decode cX6_pair 52 = .ok (.iload 4, 2) := dk_21 4 (dk_at dksX6_pair_2 5 rfl rfl)
theorem dX6_pair_54 : decode cX6_pair 54 = .ok (.aload_n 0, 1) := dk_42 (dk_at dksX6_pair_2 7 rfl rfl)
theorem dX6_pair_55 : decode cX6_pair 55 = .ok (.getfield 41, 3) := dk_180 0 41 (dk_at dksX6_pair_2 8 rfl rfl)
theorem dX6_pair_58 : decode cX6_pair 58 = .ok (.iload_n 3, 1) := dk_29 (dk_at dksX6_pair_2 11 rfl rfl)
theorem dX6_pair_59 : decode cX6_pair 59 = .ok (.iaload, 1) := dk_46 (dk_at dksX6_pair_2 12 rfl rfl)
theorem dX6_pair_60 : decode cX6_pair 60 = .ok (.invokevirtual 321, 3) := dk_182 1 65 (dk_at dksX6_pair_2 13 rfl rfl)
theorem dX6_pair_63 : decode cX6_pair 63 = .ok (.istore 5, 2) := dk_54 5 (dk_at dksX6_pair_2 16 rfl rfl)
theorem dX6_pair_65 : decode cX6_pair 65 = .ok (.iload_n 1, 1) := dk_27 (dk_at dksX6_pair_2 18 rfl rfl)
theorem dX6_pair_66 : decode cX6_pair 66 = .ok (.iconst (-1), 1) := dk_2 (dk_at dksX6_pair_2 19 rfl rfl)
theorem dX6_pair_67 : decode cX6_pair 67 = .ok (.if_icmp .eq 12, 3) := dk_159 0 12 (dk_at dksX6_pair_2 20 rfl rfl)
theorem dX6_pair_70 : decode cX6_pair 70 = .ok (.iload 5, 2) := dk_21 5 (dk_at dksX6_pair_3 0 rfl rfl)
theorem dX6_pair_72 : decode cX6_pair 72 = .ok (.iload_n 2, 1) := dk_28 (dk_at dksX6_pair_3 2 rfl rfl)
theorem dX6_pair_73 : decode cX6_pair 73 = .ok (.if_icmp .lt 6, 3) := dk_161 0 6 (dk_at dksX6_pair_3 3 rfl rfl)
theorem dX6_pair_76 : decode cX6_pair 76 = .ok (.goto 14, 3) := dk_167 0 14 (dk_at dksX6_pair_3 6 rfl rfl)
theorem dX6_pair_79 : decode cX6_pair 79 = .ok (.bipush 100, 2) := dk_16 100 (dk_at dksX6_pair_3 9 rfl rfl)
theorem dX6_pair_81 : decode cX6_pair 81 = .ok (.iload_n 3, 1) := dk_29 (dk_at dksX6_pair_3 11 rfl rfl)
theorem dX6_pair_82 : decode cX6_pair 82 = .ok (.imul, 1) := dk_104 (dk_at dksX6_pair_3 12 rfl rfl)
theorem dX6_pair_83 : decode cX6_pair 83 = .ok (.iload 4, 2) := dk_21 4 (dk_at dksX6_pair_3 13 rfl rfl)
theorem dX6_pair_85 : decode cX6_pair 85 = .ok (.iadd, 1) := dk_96 (dk_at dksX6_pair_3 15 rfl rfl)
theorem dX6_pair_86 : decode cX6_pair 86 = .ok (.istore_n 1, 1) := dk_60 (dk_at dksX6_pair_3 16 rfl rfl)
theorem dX6_pair_87 : decode cX6_pair 87 = .ok (.iload 5, 2) := dk_21 5 (dk_at dksX6_pair_3 17 rfl rfl)
theorem dX6_pair_89 : decode cX6_pair 89 = .ok (.istore_n 2, 1) := dk_61 (dk_at dksX6_pair_3 19 rfl rfl)
theorem dX6_pair_90 : decode cX6_pair 90 = .ok (.iinc 4 1, 3) := dk_132 4 1 (dk_at dksX6_pair_3 20 rfl rfl)
theorem dX6_pair_93 : decode cX6_pair 93 = .ok (.goto (-52), 3) := dk_167 255 204 (dk_at dksX6_pair_4 0 rfl rfl)
theorem dX6_pair_96 : decode cX6_pair 96 = .ok (.iinc 3 1, 3) := dk_132 3 1 (dk_at dksX6_pair_4 3 rfl rfl)
theorem dX6_pair_99 : decode cX6_pair 99 = .ok (.goto (-71), 3) := dk_167 255 185 (dk_at dksX6_pair_4 6 rfl rfl)
theorem dX6_pair_102 : decode cX6_pair 102 = .ok (.iload_n 1, 1) := dk_27 (dk_at dksX6_pair_4 9 rfl rfl)
theorem dX6_pair_103 : decode cX6_pair 103 = .ok (.ireturn, 1) := dk_172 (dk_at dksX6_pair_4 10 rfl rfl)
abbrev cX6_start : ByteArray := prog_23_method_73_code
def yX6_start : MethodName := ⟨RX6, "start", "(II)I"⟩
def dkwX6_start_1 : List UInt8 := [182, 1, 71, 167, 0, 8, 42, 2, 182, 1, 74, 172]
abbrev dktX6_start_1 : List UInt8 := dkwX6_start_1 ++ []
def dkwX6_start_0 : List UInt8 := [42, 27, 182, 0, 131, 153, 0, 24, 42, 28, 182, 0, 131, 153, 0, 16, 42, 27, 42, 28, 182, 1, 37]
abbrev dktX6_start_0 : List UInt8 := dkwX6_start_0 ++ dktX6_start_1
theorem dksX6_start_0 : cX6_start.data.toList.drop 0 = dktX6_start_0 := by decide +kernel
theorem dksX6_start_1 : cX6_start.data.toList.drop 23 = dktX6_start_1 := dk_seg dksX6_start_0 23 rfl rfl
theorem dX6_start_0 : decode cX6_start 0 = .ok (.aload_n 0, 1) := dk_42 (dk_at dksX6_start_0 0 rfl rfl)
theorem dX6_start_1 : decode cX6_start 1 = .ok (.iload_n 1, 1) := dk_27 (dk_at dksX6_start_0 1 rfl rfl)
theorem dX6_start_2 : decode cX6_start 2 = .ok (.invokevirtual 131, 3) := dk_182 0 131 (dk_at dksX6_start_0 2 rfl rfl)
theorem dX6_start_5 : decode cX6_start 5 = .ok (.ifCond .eq 24, 3) := dk_153 0 24 (dk_at dksX6_start_0 5 rfl rfl)
theorem dX6_start_8 : decode cX6_start 8 = .ok (.aload_n 0, 1) := dk_42 (dk_at dksX6_start_0 8 rfl rfl)
theorem dX6_start_9 : decode cX6_start 9 = .ok (.iload_n 2, 1) := dk_28 (dk_at dksX6_start_0 9 rfl rfl)
theorem dX6_start_10 : decode cX6_start 10 = .ok (.invokevirtual 131, 3) := dk_182 0 131 (dk_at dksX6_start_0 10 rfl rfl)
theorem dX6_start_13 : decode cX6_start 13 = .ok (.ifCond .eq 16, 3) := dk_153 0 16 (dk_at dksX6_start_0 13 rfl rfl)
theorem dX6_start_16 : decode cX6_start 16 = .ok (.aload_n 0, 1) := dk_42 (dk_at dksX6_start_0 16 rfl rfl)
theorem dX6_start_17 : decode cX6_start 17 = .ok (.iload_n 1, 1) := dk_27 (dk_at dksX6_start_0 17 rfl rfl)
theorem dX6_start_18 : decode cX6_start 18 = .ok (.aload_n 0, 1) := dk_42 (dk_at dksX6_start_0 18 rfl rfl)
theorem dX6_start_19 : decode cX6_start 19 = .ok (.iload_n 2, 1) := dk_28 (dk_at dksX6_start_0 19 rfl rfl)
theorem dX6_start_20 : decode cX6_start 20 = .ok (.invokevirtual 293, 3) := dk_182 1 37 (dk_at dksX6_start_0 20 rfl rfl)
theorem dX6_start_23 : decode cX6_start 23 = .ok (.invokevirtual 327, 3) := dk_182 1 71 (dk_at dksX6_start_1 0 rfl rfl)
theorem dX6_start_26 : decode cX6_start 26 = .ok (.goto 8, 3) := dk_167 0 8 (dk_at dksX6_start_1 3 rfl rfl)
theorem dX6_start_29 : decode cX6_start 29 = .ok (.aload_n 0, 1) := dk_42 (dk_at dksX6_start_1 6 rfl rfl)
theorem dX6_start_30 : decode cX6_start 30 = .ok (.iconst (-1), 1) := dk_2 (dk_at dksX6_start_1 7 rfl rfl)
theorem dX6_start_31 : decode cX6_start 31 = .ok (.invokevirtual 330, 3) := dk_182 1 74 (dk_at dksX6_start_1 8 rfl rfl)
theorem dX6_start_34 : decode cX6_start 34 = .ok (.ireturn, 1) := dk_172 (dk_at dksX6_start_1 11 rfl rfl)
abbrev cX6_startOf : ByteArray := prog_23_method_72_code
def yX6_startOf : MethodName := ⟨RX6, "startOf", "(II)I"⟩
def dkwX6_startOf_1 : List UInt8 := [167, 255, 235, 2, 172]
abbrev dktX6_startOf_1 : List UInt8 := dkwX6_startOf_1 ++ []
def dkwX6_startOf_0 : List UInt8 := [3, 62, 29, 16, 100, 162, 0, 21, 42, 27, 29, 182, 1, 68, 28, 163, 0, 5, 29, 172, 132, 3, 1]
abbrev dktX6_startOf_0 : List UInt8 := dkwX6_startOf_0 ++ dktX6_startOf_1
theorem dksX6_startOf_0 : cX6_startOf.data.toList.drop 0 = dktX6_startOf_0 := by decide +kernel
theorem dksX6_startOf_1 : cX6_startOf.data.toList.drop 23 = dktX6_startOf_1 := dk_seg dksX6_startOf_0 23 rfl rfl
theorem dX6_startOf_0 : decode cX6_startOf 0 = .ok (.iconst 0, 1) := dk_3 (dk_at dksX6_startOf_0 0 rfl rfl)
theorem dX6_startOf_1 : decode cX6_startOf 1 = .ok (.istore_n 3, 1) := dk_62 (dk_at dksX6_startOf_0 1 rfl rfl)
theorem dX6_startOf_2 : decode cX6_startOf 2 = .ok (.iload_n 3, 1) := dk_29 (dk_at dksX6_startOf_0 2 rfl rfl)
theorem dX6_startOf_3 : decode cX6_startOf 3 = .ok (.bipush 100, 2) := dk_16 100 (dk_at dksX6_startOf_0 3 rfl rfl)
theorem dX6_startOf_5 : decode cX6_startOf 5 = .ok (.if_icmp .ge 21, 3) := dk_162 0 21 (dk_at dksX6_startOf_0 5 rfl rfl)
theorem dX6_startOf_8 : decode cX6_startOf 8 = .ok (.aload_n 0, 1) := dk_42 (dk_at dksX6_startOf_0 8 rfl rfl)
theorem dX6_startOf_9 : decode cX6_startOf 9 = .ok (.iload_n 1, 1) := dk_27 (dk_at dksX6_startOf_0 9 rfl rfl)
theorem dX6_startOf_10 : decode cX6_startOf 10 = .ok (.iload_n 3, 1) := dk_29 (dk_at dksX6_startOf_0 10 rfl rfl)
theorem dX6_startOf_11 : decode cX6_startOf 11 = .ok (.invokevirtual 324, 3) := dk_182 1 68 (dk_at dksX6_startOf_0 11 rfl rfl)
theorem dX6_startOf_14 : decode cX6_startOf 14 = .ok (.iload_n 2, 1) := dk_28 (dk_at dksX6_startOf_0 14 rfl rfl)
theorem dX6_startOf_15 : decode cX6_startOf 15 = .ok (.if_icmp .gt 5, 3) := dk_163 0 5 (dk_at dksX6_startOf_0 15 rfl rfl)
theorem dX6_startOf_18 : decode cX6_startOf 18 = .ok (.iload_n 3, 1) := dk_29 (dk_at dksX6_startOf_0 18 rfl rfl)
theorem dX6_startOf_19 : decode cX6_startOf 19 = .ok (.ireturn, 1) := dk_172 (dk_at dksX6_startOf_0 19 rfl rfl)
theorem dX6_startOf_20 : decode cX6_startOf 20 = .ok (.iinc 3 1, 3) := dk_132 3 1 (dk_at dksX6_startOf_0 20 rfl rfl)
theorem dX6_startOf_23 : decode cX6_startOf 23 = .ok (.goto (-21), 3) := dk_167 255 235 (dk_at dksX6_startOf_1 0 rfl rfl)
theorem dX6_startOf_26 : decode cX6_startOf 26 = .ok (.iconst (-1), 1) := dk_2 (dk_at dksX6_startOf_1 3 rfl rfl)
theorem dX6_startOf_27 : decode cX6_startOf 27 = .ok (.ireturn, 1) := dk_172 (dk_at dksX6_startOf_1 4 rfl rfl)
abbrev cX6_inFrom : ByteArray := prog_23_method_58_code
def yX6_inFrom : MethodName := ⟨RX6, "inFrom", "(II)I"⟩
def dkwX6_inFrom_0 : List UInt8 := [42, 27, 182, 0, 134, 42, 28, 181, 0, 233, 42, 182, 1, 34, 172]
abbrev dktX6_inFrom_0 : List UInt8 := dkwX6_inFrom_0 ++ []
theorem dksX6_inFrom_0 : cX6_inFrom.data.toList.drop 0 = dktX6_inFrom_0 := by decide +kernel
theorem dX6_inFrom_0 : decode cX6_inFrom 0 = .ok (.aload_n 0, 1) := dk_42 (dk_at dksX6_inFrom_0 0 rfl rfl)
theorem dX6_inFrom_1 : decode cX6_inFrom 1 = .ok (.iload_n 1, 1) := dk_27 (dk_at dksX6_inFrom_0 1 rfl rfl)
theorem dX6_inFrom_2 : decode cX6_inFrom 2 = .ok (.invokevirtual 134, 3) := dk_182 0 134 (dk_at dksX6_inFrom_0 2 rfl rfl)
theorem dX6_inFrom_5 : decode cX6_inFrom 5 = .ok (.aload_n 0, 1) := dk_42 (dk_at dksX6_inFrom_0 5 rfl rfl)
theorem dX6_inFrom_6 : decode cX6_inFrom 6 = .ok (.iload_n 2, 1) := dk_28 (dk_at dksX6_inFrom_0 6 rfl rfl)
theorem dX6_inFrom_7 : decode cX6_inFrom 7 = .ok (.putfield 233, 3) := dk_181 0 233 (dk_at dksX6_inFrom_0 7 rfl rfl)
theorem dX6_inFrom_10 : decode cX6_inFrom 10 = .ok (.aload_n 0, 1) := dk_42 (dk_at dksX6_inFrom_0 10 rfl rfl)
theorem dX6_inFrom_11 : decode cX6_inFrom 11 = .ok (.invokevirtual 290, 3) := dk_182 1 34 (dk_at dksX6_inFrom_0 11 rfl rfl)
theorem dX6_inFrom_14 : decode cX6_inFrom 14 = .ok (.ireturn, 1) := dk_172 (dk_at dksX6_inFrom_0 14 rfl rfl)
abbrev cX6_noTen : ByteArray := prog_23_method_3_code
def yX6_noTen : MethodName := ⟨RX6, "noTen", "(I)I"⟩
def dkwX6_noTen_0 : List UInt8 := [42, 180, 0, 28, 27, 116, 92, 46, 4, 96, 79, 27, 16, 10, 100, 172]
abbrev dktX6_noTen_0 : List UInt8 := dkwX6_noTen_0 ++ []
theorem dksX6_noTen_0 : cX6_noTen.data.toList.drop 0 = dktX6_noTen_0 := by decide +kernel
theorem dX6_noTen_0 : decode cX6_noTen 0 = .ok (.aload_n 0, 1) := dk_42 (dk_at dksX6_noTen_0 0 rfl rfl)
theorem dX6_noTen_1 : decode cX6_noTen 1 = .ok (.getfield 28, 3) := dk_180 0 28 (dk_at dksX6_noTen_0 1 rfl rfl)
theorem dX6_noTen_4 : decode cX6_noTen 4 = .ok (.iload_n 1, 1) := dk_27 (dk_at dksX6_noTen_0 4 rfl rfl)
theorem dX6_noTen_5 : decode cX6_noTen 5 = .ok (.ineg, 1) := dk_116 (dk_at dksX6_noTen_0 5 rfl rfl)
theorem dX6_noTen_6 : decode cX6_noTen 6 = .ok (.dup2, 1) := dk_92 (dk_at dksX6_noTen_0 6 rfl rfl)
theorem dX6_noTen_7 : decode cX6_noTen 7 = .ok (.iaload, 1) := dk_46 (dk_at dksX6_noTen_0 7 rfl rfl)
theorem dX6_noTen_8 : decode cX6_noTen 8 = .ok (.iconst 1, 1) := dk_4 (dk_at dksX6_noTen_0 8 rfl rfl)
theorem dX6_noTen_9 : decode cX6_noTen 9 = .ok (.iadd, 1) := dk_96 (dk_at dksX6_noTen_0 9 rfl rfl)
theorem dX6_noTen_10 : decode cX6_noTen 10 = .ok (.iastore, 1) := dk_79 (dk_at dksX6_noTen_0 10 rfl rfl)
theorem dX6_noTen_11 : decode cX6_noTen 11 = .ok (.iload_n 1, 1) := dk_27 (dk_at dksX6_noTen_0 11 rfl rfl)
theorem dX6_noTen_12 : decode cX6_noTen 12 = .ok (.bipush 10, 2) := dk_16 10 (dk_at dksX6_noTen_0 12 rfl rfl)
theorem dX6_noTen_14 : decode cX6_noTen 14 = .ok (.isub, 1) := dk_100 (dk_at dksX6_noTen_0 14 rfl rfl)
theorem dX6_noTen_15 : decode cX6_noTen 15 = .ok (.ireturn, 1) := dk_172 (dk_at dksX6_noTen_0 15 rfl rfl)
abbrev cX6_atOnce : ByteArray := prog_23_method_74_code
def yX6_atOnce : MethodName := ⟨RX6, "atOnce", "()I"⟩
def dkwX6_atOnce_2 : List UInt8 := [21, 4, 96, 61, 132, 3, 1, 167, 255, 224, 28, 172]
abbrev dktX6_atOnce_2 : List UInt8 := dkwX6_atOnce_2 ++ []
def dkwX6_atOnce_1 : List UInt8 := [180, 0, 117, 162, 0, 30, 42, 29, 27, 182, 1, 71, 54, 4, 21, 4, 2, 160, 0, 5, 2, 172, 28]
abbrev dktX6_atOnce_1 : List UInt8 := dkwX6_atOnce_1 ++ dktX6_atOnce_2
def dkwX6_atOnce_0 : List UInt8 := [42, 180, 0, 117, 154, 0, 5, 3, 172, 42, 42, 182, 1, 40, 182, 1, 37, 60, 3, 61, 3, 62, 29, 42]
abbrev dktX6_atOnce_0 : List UInt8 := dkwX6_atOnce_0 ++ dktX6_atOnce_1
theorem dksX6_atOnce_0 : cX6_atOnce.data.toList.drop 0 = dktX6_atOnce_0 := by decide +kernel
theorem dksX6_atOnce_1 : cX6_atOnce.data.toList.drop 24 = dktX6_atOnce_1 := dk_seg dksX6_atOnce_0 24 rfl rfl
theorem dksX6_atOnce_2 : cX6_atOnce.data.toList.drop 47 = dktX6_atOnce_2 := dk_seg dksX6_atOnce_1 23 rfl rfl
theorem dX6_atOnce_0 : decode cX6_atOnce 0 = .ok (.aload_n 0, 1) := dk_42 (dk_at dksX6_atOnce_0 0 rfl rfl)
theorem dX6_atOnce_1 : decode cX6_atOnce 1 = .ok (.getfield 117, 3) := dk_180 0 117 (dk_at dksX6_atOnce_0 1 rfl rfl)
theorem dX6_atOnce_4 : decode cX6_atOnce 4 = .ok (.ifCond .ne 5, 3) := dk_154 0 5 (dk_at dksX6_atOnce_0 4 rfl rfl)
theorem dX6_atOnce_7 : decode cX6_atOnce 7 = .ok (.iconst 0, 1) := dk_3 (dk_at dksX6_atOnce_0 7 rfl rfl)
theorem dX6_atOnce_8 : decode cX6_atOnce 8 = .ok (.ireturn, 1) := dk_172 (dk_at dksX6_atOnce_0 8 rfl rfl)
theorem dX6_atOnce_9 : decode cX6_atOnce 9 = .ok (.aload_n 0, 1) := dk_42 (dk_at dksX6_atOnce_0 9 rfl rfl)
theorem dX6_atOnce_10 : decode cX6_atOnce 10 = .ok (.aload_n 0, 1) := dk_42 (dk_at dksX6_atOnce_0 10 rfl rfl)
theorem dX6_atOnce_11 : decode cX6_atOnce 11 = .ok (.invokevirtual 296, 3) := dk_182 1 40 (dk_at dksX6_atOnce_0 11 rfl rfl)
theorem dX6_atOnce_14 : decode cX6_atOnce 14 = .ok (.invokevirtual 293, 3) := dk_182 1 37 (dk_at dksX6_atOnce_0 14 rfl rfl)
theorem dX6_atOnce_17 : decode cX6_atOnce 17 = .ok (.istore_n 1, 1) := dk_60 (dk_at dksX6_atOnce_0 17 rfl rfl)
theorem dX6_atOnce_18 : decode cX6_atOnce 18 = .ok (.iconst 0, 1) := dk_3 (dk_at dksX6_atOnce_0 18 rfl rfl)
theorem dX6_atOnce_19 : decode cX6_atOnce 19 = .ok (.istore_n 2, 1) := dk_61 (dk_at dksX6_atOnce_0 19 rfl rfl)
theorem dX6_atOnce_20 : decode cX6_atOnce 20 = .ok (.iconst 0, 1) := dk_3 (dk_at dksX6_atOnce_0 20 rfl rfl)
theorem dX6_atOnce_21 : decode cX6_atOnce 21 = .ok (.istore_n 3, 1) := dk_62 (dk_at dksX6_atOnce_0 21 rfl rfl)
theorem dX6_atOnce_22 : decode cX6_atOnce 22 = .ok (.iload_n 3, 1) := dk_29 (dk_at dksX6_atOnce_0 22 rfl rfl)
theorem dX6_atOnce_23 : decode cX6_atOnce 23 = .ok (.aload_n 0, 1) := dk_42 (dk_at dksX6_atOnce_0 23 rfl rfl)
theorem dX6_atOnce_24 : decode cX6_atOnce 24 = .ok (.getfield 117, 3) := dk_180 0 117 (dk_at dksX6_atOnce_1 0 rfl rfl)
theorem dX6_atOnce_27 : decode cX6_atOnce 27 = .ok (.if_icmp .ge 30, 3) := dk_162 0 30 (dk_at dksX6_atOnce_1 3 rfl rfl)
theorem dX6_atOnce_30 : decode cX6_atOnce 30 = .ok (.aload_n 0, 1) := dk_42 (dk_at dksX6_atOnce_1 6 rfl rfl)
theorem dX6_atOnce_31 : decode cX6_atOnce 31 = .ok (.iload_n 3, 1) := dk_29 (dk_at dksX6_atOnce_1 7 rfl rfl)
theorem dX6_atOnce_32 : decode cX6_atOnce 32 = .ok (.iload_n 1, 1) := dk_27 (dk_at dksX6_atOnce_1 8 rfl rfl)
theorem dX6_atOnce_33 : decode cX6_atOnce 33 = .ok (.invokevirtual 327, 3) := dk_182 1 71 (dk_at dksX6_atOnce_1 9 rfl rfl)
theorem dX6_atOnce_36 : decode cX6_atOnce 36 = .ok (.istore 4, 2) := dk_54 4 (dk_at dksX6_atOnce_1 12 rfl rfl)
theorem dX6_atOnce_38 : decode cX6_atOnce 38 = .ok (.iload 4, 2) := dk_21 4 (dk_at dksX6_atOnce_1 14 rfl rfl)
theorem dX6_atOnce_40 : decode cX6_atOnce 40 = .ok (.iconst (-1), 1) := dk_2 (dk_at dksX6_atOnce_1 16 rfl rfl)
theorem dX6_atOnce_41 : decode cX6_atOnce 41 = .ok (.if_icmp .ne 5, 3) := dk_160 0 5 (dk_at dksX6_atOnce_1 17 rfl rfl)
theorem dX6_atOnce_44 : decode cX6_atOnce 44 = .ok (.iconst (-1), 1) := dk_2 (dk_at dksX6_atOnce_1 20 rfl rfl)
theorem dX6_atOnce_45 : decode cX6_atOnce 45 = .ok (.ireturn, 1) := dk_172 (dk_at dksX6_atOnce_1 21 rfl rfl)
theorem dX6_atOnce_46 : decode cX6_atOnce 46 = .ok (.iload_n 2, 1) := dk_28 (dk_at dksX6_atOnce_1 22 rfl rfl)
theorem dX6_atOnce_47 : decode cX6_atOnce 47 = .ok (.iload 4, 2) := dk_21 4 (dk_at dksX6_atOnce_2 0 rfl rfl)
theorem dX6_atOnce_49 : decode cX6_atOnce 49 = .ok (.iadd, 1) := dk_96 (dk_at dksX6_atOnce_2 2 rfl rfl)
theorem dX6_atOnce_50 : decode cX6_atOnce 50 = .ok (.istore_n 2, 1) := dk_61 (dk_at dksX6_atOnce_2 3 rfl rfl)
theorem dX6_atOnce_51 : decode cX6_atOnce 51 = .ok (.iinc 3 1, 3) := dk_132 3 1 (dk_at dksX6_atOnce_2 4 rfl rfl)
theorem dX6_atOnce_54 : decode cX6_atOnce 54 = .ok (.goto (-32), 3) := dk_167 255 224 (dk_at dksX6_atOnce_2 7 rfl rfl)
theorem dX6_atOnce_57 : decode cX6_atOnce 57 = .ok (.iload_n 2, 1) := dk_28 (dk_at dksX6_atOnce_2 10 rfl rfl)
theorem dX6_atOnce_58 : decode cX6_atOnce 58 = .ok (.ireturn, 1) := dk_172 (dk_at dksX6_atOnce_2 11 rfl rfl)
abbrev cX6_heats : ByteArray := prog_23_method_75_code
def yX6_heats : MethodName := ⟨RX6, "heats", "(II)I"⟩
def dkwX6_heats_8 : List UInt8 := [154, 0, 12, 42, 180, 0, 99, 3, 46, 167, 0, 5, 21, 4, 172]
abbrev dktX6_heats_8 : List UInt8 := dkwX6_heats_8 ++ []
def dkwX6_heats_7 : List UInt8 := [132, 5, 1, 132, 4, 1, 21, 6, 27, 96, 54, 6, 167, 255, 164, 21, 5, 62, 167, 255, 147, 28]
abbrev dktX6_heats_7 : List UInt8 := dkwX6_heats_7 ++ dktX6_heats_8
def dkwX6_heats_6 : List UInt8 := [180, 0, 99, 21, 8, 46, 54, 7, 132, 8, 1, 167, 255, 209, 42, 180, 0, 99, 21, 5, 21, 7, 79]
abbrev dktX6_heats_6 : List UInt8 := dkwX6_heats_6 ++ dktX6_heats_7
def dkwX6_heats_5 : List UInt8 := [162, 0, 38, 42, 42, 180, 0, 99, 21, 8, 46, 182, 1, 37, 42, 21, 7, 182, 1, 37, 162, 0, 12, 42]
abbrev dktX6_heats_5 : List UInt8 := dkwX6_heats_5 ++ dktX6_heats_6
def dkwX6_heats_4 : List UInt8 := [21, 6, 46, 54, 7, 21, 6, 4, 96, 54, 8, 21, 8, 29, 162, 0, 47, 21, 8, 21, 6, 27, 96]
abbrev dktX6_heats_4 : List UInt8 := dkwX6_heats_4 ++ dktX6_heats_5
def dkwX6_heats_3 : List UInt8 := [167, 255, 235, 29, 4, 164, 0, 110, 3, 54, 5, 3, 54, 6, 21, 6, 29, 162, 0, 92, 42, 180, 0, 99]
abbrev dktX6_heats_3 : List UInt8 := dkwX6_heats_3 ++ dktX6_heats_4
def dkwX6_heats_2 : List UInt8 := [3, 54, 5, 21, 5, 42, 180, 0, 117, 162, 0, 18, 42, 180, 0, 99, 21, 5, 21, 5, 79, 132, 5, 1]
abbrev dktX6_heats_2 : List UInt8 := dkwX6_heats_2 ++ dktX6_heats_3
def dkwX6_heats_1 : List UInt8 := [5, 161, 0, 8, 27, 7, 164, 0, 10, 42, 16, 250, 182, 0, 127, 172, 42, 180, 0, 117, 62, 3, 54, 4]
abbrev dktX6_heats_1 : List UInt8 := dkwX6_heats_1 ++ dktX6_heats_2
def dkwX6_heats_0 : List UInt8 := [28, 155, 0, 15, 28, 4, 163, 0, 10, 42, 180, 0, 117, 154, 0, 10, 42, 16, 251, 182, 0, 127, 172, 27]
abbrev dktX6_heats_0 : List UInt8 := dkwX6_heats_0 ++ dktX6_heats_1
theorem dksX6_heats_0 : cX6_heats.data.toList.drop 0 = dktX6_heats_0 := by decide +kernel
theorem dksX6_heats_1 : cX6_heats.data.toList.drop 24 = dktX6_heats_1 := dk_seg dksX6_heats_0 24 rfl rfl
theorem dksX6_heats_2 : cX6_heats.data.toList.drop 48 = dktX6_heats_2 := dk_seg dksX6_heats_1 24 rfl rfl
theorem dksX6_heats_3 : cX6_heats.data.toList.drop 72 = dktX6_heats_3 := dk_seg dksX6_heats_2 24 rfl rfl
theorem dksX6_heats_4 : cX6_heats.data.toList.drop 96 = dktX6_heats_4 := dk_seg dksX6_heats_3 24 rfl rfl
theorem dksX6_heats_5 : cX6_heats.data.toList.drop 119 = dktX6_heats_5 := dk_seg dksX6_heats_4 23 rfl rfl
theorem dksX6_heats_6 : cX6_heats.data.toList.drop 143 = dktX6_heats_6 := dk_seg dksX6_heats_5 24 rfl rfl
theorem dksX6_heats_7 : cX6_heats.data.toList.drop 166 = dktX6_heats_7 := dk_seg dksX6_heats_6 23 rfl rfl
theorem dksX6_heats_8 : cX6_heats.data.toList.drop 188 = dktX6_heats_8 := dk_seg dksX6_heats_7 22 rfl rfl
theorem dX6_heats_0 : decode cX6_heats 0 = .ok (.iload_n 2, 1) := dk_28 (dk_at dksX6_heats_0 0 rfl rfl)
theorem dX6_heats_1 : decode cX6_heats 1 = .ok (.ifCond .lt 15, 3) := dk_155 0 15 (dk_at dksX6_heats_0 1 rfl rfl)
theorem dX6_heats_4 : decode cX6_heats 4 = .ok (.iload_n 2, 1) := dk_28 (dk_at dksX6_heats_0 4 rfl rfl)
theorem dX6_heats_5 : decode cX6_heats 5 = .ok (.iconst 1, 1) := dk_4 (dk_at dksX6_heats_0 5 rfl rfl)
theorem dX6_heats_6 : decode cX6_heats 6 = .ok (.if_icmp .gt 10, 3) := dk_163 0 10 (dk_at dksX6_heats_0 6 rfl rfl)
theorem dX6_heats_9 : decode cX6_heats 9 = .ok (.aload_n 0, 1) := dk_42 (dk_at dksX6_heats_0 9 rfl rfl)
theorem dX6_heats_10 : decode cX6_heats 10 = .ok (.getfield 117, 3) := dk_180 0 117 (dk_at dksX6_heats_0 10 rfl rfl)
theorem dX6_heats_13 : decode cX6_heats 13 = .ok (.ifCond .ne 10, 3) := dk_154 0 10 (dk_at dksX6_heats_0 13 rfl rfl)
theorem dX6_heats_16 : decode cX6_heats 16 = .ok (.aload_n 0, 1) := dk_42 (dk_at dksX6_heats_0 16 rfl rfl)
theorem dX6_heats_17 : decode cX6_heats 17 = .ok (.bipush (-5), 2) := dk_16 251 (dk_at dksX6_heats_0 17 rfl rfl)
theorem dX6_heats_19 : decode cX6_heats 19 = .ok (.invokevirtual 127, 3) := dk_182 0 127 (dk_at dksX6_heats_0 19 rfl rfl)
theorem dX6_heats_22 : decode cX6_heats 22 = .ok (.ireturn, 1) := dk_172 (dk_at dksX6_heats_0 22 rfl rfl)
theorem dX6_heats_23 : decode cX6_heats 23 = .ok (.iload_n 1, 1) := dk_27 (dk_at dksX6_heats_0 23 rfl rfl)
theorem dX6_heats_24 : decode cX6_heats 24 = .ok (.iconst 2, 1) := dk_5 (dk_at dksX6_heats_1 0 rfl rfl)
theorem dX6_heats_25 : decode cX6_heats 25 = .ok (.if_icmp .lt 8, 3) := dk_161 0 8 (dk_at dksX6_heats_1 1 rfl rfl)
theorem dX6_heats_28 : decode cX6_heats 28 = .ok (.iload_n 1, 1) := dk_27 (dk_at dksX6_heats_1 4 rfl rfl)
theorem dX6_heats_29 : decode cX6_heats 29 = .ok (.iconst 4, 1) := dk_7 (dk_at dksX6_heats_1 5 rfl rfl)
theorem dX6_heats_30 : decode cX6_heats 30 = .ok (.if_icmp .le 10, 3) := dk_164 0 10 (dk_at dksX6_heats_1 6 rfl rfl)
theorem dX6_heats_33 : decode cX6_heats 33 = .ok (.aload_n 0, 1) := dk_42 (dk_at dksX6_heats_1 9 rfl rfl)
theorem dX6_heats_34 : decode cX6_heats 34 = .ok (.bipush (-6), 2) := dk_16 250 (dk_at dksX6_heats_1 10 rfl rfl)
theorem dX6_heats_36 : decode cX6_heats 36 = .ok (.invokevirtual 127, 3) := dk_182 0 127 (dk_at dksX6_heats_1 12 rfl rfl)
theorem dX6_heats_39 : decode cX6_heats 39 = .ok (.ireturn, 1) := dk_172 (dk_at dksX6_heats_1 15 rfl rfl)
theorem dX6_heats_40 : decode cX6_heats 40 = .ok (.aload_n 0, 1) := dk_42 (dk_at dksX6_heats_1 16 rfl rfl)
theorem dX6_heats_41 : decode cX6_heats 41 = .ok (.getfield 117, 3) := dk_180 0 117 (dk_at dksX6_heats_1 17 rfl rfl)
theorem dX6_heats_44 : decode cX6_heats 44 = .ok (.istore_n 3, 1) := dk_62 (dk_at dksX6_heats_1 20 rfl rfl)
theorem dX6_heats_45 : decode cX6_heats 45 = .ok (.iconst 0, 1) := dk_3 (dk_at dksX6_heats_1 21 rfl rfl)
theorem dX6_heats_46 : decode cX6_heats 46 = .ok (.istore 4, 2) := dk_54 4 (dk_at dksX6_heats_1 22 rfl rfl)
theorem dX6_heats_48 : decode cX6_heats 48 = .ok (.iconst 0, 1) := dk_3 (dk_at dksX6_heats_2 0 rfl rfl)
theorem dX6_heats_49 : decode cX6_heats 49 = .ok (.istore 5, 2) := dk_54 5 (dk_at dksX6_heats_2 1 rfl rfl)
theorem dX6_heats_51 : decode cX6_heats 51 = .ok (.iload 5, 2) := dk_21 5 (dk_at dksX6_heats_2 3 rfl rfl)
theorem dX6_heats_53 : decode cX6_heats 53 = .ok (.aload_n 0, 1) := dk_42 (dk_at dksX6_heats_2 5 rfl rfl)
theorem dX6_heats_54 : decode cX6_heats 54 = .ok (.getfield 117, 3) := dk_180 0 117 (dk_at dksX6_heats_2 6 rfl rfl)
theorem dX6_heats_57 : decode cX6_heats 57 = .ok (.if_icmp .ge 18, 3) := dk_162 0 18 (dk_at dksX6_heats_2 9 rfl rfl)
theorem dX6_heats_60 : decode cX6_heats 60 = .ok (.aload_n 0, 1) := dk_42 (dk_at dksX6_heats_2 12 rfl rfl)
theorem dX6_heats_61 : decode cX6_heats 61 = .ok (.getfield 99, 3) := dk_180 0 99 (dk_at dksX6_heats_2 13 rfl rfl)
theorem dX6_heats_64 : decode cX6_heats 64 = .ok (.iload 5, 2) := dk_21 5 (dk_at dksX6_heats_2 16 rfl rfl)
theorem dX6_heats_66 : decode cX6_heats 66 = .ok (.iload 5, 2) := dk_21 5 (dk_at dksX6_heats_2 18 rfl rfl)
theorem dX6_heats_68 : decode cX6_heats 68 = .ok (.iastore, 1) := dk_79 (dk_at dksX6_heats_2 20 rfl rfl)
theorem dX6_heats_69 : decode cX6_heats 69 = .ok (.iinc 5 1, 3) := dk_132 5 1 (dk_at dksX6_heats_2 21 rfl rfl)
theorem dX6_heats_72 : decode cX6_heats 72 = .ok (.goto (-21), 3) := dk_167 255 235 (dk_at dksX6_heats_3 0 rfl rfl)
theorem dX6_heats_75 : decode cX6_heats 75 = .ok (.iload_n 3, 1) := dk_29 (dk_at dksX6_heats_3 3 rfl rfl)
theorem dX6_heats_76 : decode cX6_heats 76 = .ok (.iconst 1, 1) := dk_4 (dk_at dksX6_heats_3 4 rfl rfl)
theorem dX6_heats_77 : decode cX6_heats 77 = .ok (.if_icmp .le 110, 3) := dk_164 0 110 (dk_at dksX6_heats_3 5 rfl rfl)
theorem dX6_heats_80 : decode cX6_heats 80 = .ok (.iconst 0, 1) := dk_3 (dk_at dksX6_heats_3 8 rfl rfl)
theorem dX6_heats_81 : decode cX6_heats 81 = .ok (.istore 5, 2) := dk_54 5 (dk_at dksX6_heats_3 9 rfl rfl)
theorem dX6_heats_83 : decode cX6_heats 83 = .ok (.iconst 0, 1) := dk_3 (dk_at dksX6_heats_3 11 rfl rfl)
theorem dX6_heats_84 : decode cX6_heats 84 = .ok (.istore 6, 2) := dk_54 6 (dk_at dksX6_heats_3 12 rfl rfl)
theorem dX6_heats_86 : decode cX6_heats 86 = .ok (.iload 6, 2) := dk_21 6 (dk_at dksX6_heats_3 14 rfl rfl)
theorem dX6_heats_88 : decode cX6_heats 88 = .ok (.iload_n 3, 1) := dk_29 (dk_at dksX6_heats_3 16 rfl rfl)
theorem dX6_heats_89 : decode cX6_heats 89 = .ok (.if_icmp .ge 92, 3) := dk_162 0 92 (dk_at dksX6_heats_3 17 rfl rfl)
theorem dX6_heats_92 : decode cX6_heats 92 = .ok (.aload_n 0, 1) := dk_42 (dk_at dksX6_heats_3 20 rfl rfl)
theorem dX6_heats_93 : decode cX6_heats 93 = .ok (.getfield 99, 3) := dk_180 0 99 (dk_at dksX6_heats_3 21 rfl rfl)
theorem dX6_heats_96 : decode cX6_heats 96 = .ok (.iload 6, 2) := dk_21 6 (dk_at dksX6_heats_4 0 rfl rfl)
theorem dX6_heats_98 : decode cX6_heats 98 = .ok (.iaload, 1) := dk_46 (dk_at dksX6_heats_4 2 rfl rfl)
theorem dX6_heats_99 : decode cX6_heats 99 = .ok (.istore 7, 2) := dk_54 7 (dk_at dksX6_heats_4 3 rfl rfl)
theorem dX6_heats_101 : decode cX6_heats 101 = .ok (.iload 6, 2) := dk_21 6 (dk_at dksX6_heats_4 5 rfl rfl)
theorem dX6_heats_103 : decode cX6_heats 103 = .ok (.iconst 1, 1) := dk_4 (dk_at dksX6_heats_4 7 rfl rfl)
theorem dX6_heats_104 : decode cX6_heats 104 = .ok (.iadd, 1) := dk_96 (dk_at dksX6_heats_4 8 rfl rfl)
theorem dX6_heats_105 : decode cX6_heats 105 = .ok (.istore 8, 2) := dk_54 8 (dk_at dksX6_heats_4 9 rfl rfl)
theorem dX6_heats_107 : decode cX6_heats 107 = .ok (.iload 8, 2) := dk_21 8 (dk_at dksX6_heats_4 11 rfl rfl)
theorem dX6_heats_109 : decode cX6_heats 109 = .ok (.iload_n 3, 1) := dk_29 (dk_at dksX6_heats_4 13 rfl rfl)
theorem dX6_heats_110 : decode cX6_heats 110 = .ok (.if_icmp .ge 47, 3) := dk_162 0 47 (dk_at dksX6_heats_4 14 rfl rfl)
theorem dX6_heats_113 : decode cX6_heats 113 = .ok (.iload 8, 2) := dk_21 8 (dk_at dksX6_heats_4 17 rfl rfl)
theorem dX6_heats_115 : decode cX6_heats 115 = .ok (.iload 6, 2) := dk_21 6 (dk_at dksX6_heats_4 19 rfl rfl)
theorem dX6_heats_117 : decode cX6_heats 117 = .ok (.iload_n 1, 1) := dk_27 (dk_at dksX6_heats_4 21 rfl rfl)
theorem dX6_heats_118 : decode cX6_heats 118 = .ok (.iadd, 1) := dk_96 (dk_at dksX6_heats_4 22 rfl rfl)
theorem dX6_heats_119 : decode cX6_heats 119 = .ok (.if_icmp .ge 38, 3) := dk_162 0 38 (dk_at dksX6_heats_5 0 rfl rfl)
theorem dX6_heats_122 : decode cX6_heats 122 = .ok (.aload_n 0, 1) := dk_42 (dk_at dksX6_heats_5 3 rfl rfl)
theorem dX6_heats_123 : decode cX6_heats 123 = .ok (.aload_n 0, 1) := dk_42 (dk_at dksX6_heats_5 4 rfl rfl)
theorem dX6_heats_124 : decode cX6_heats 124 = .ok (.getfield 99, 3) := dk_180 0 99 (dk_at dksX6_heats_5 5 rfl rfl)
theorem dX6_heats_127 : decode cX6_heats 127 = .ok (.iload 8, 2) := dk_21 8 (dk_at dksX6_heats_5 8 rfl rfl)
theorem dX6_heats_129 : decode cX6_heats 129 = .ok (.iaload, 1) := dk_46 (dk_at dksX6_heats_5 10 rfl rfl)
theorem dX6_heats_130 : decode cX6_heats 130 = .ok (.invokevirtual 293, 3) := dk_182 1 37 (dk_at dksX6_heats_5 11 rfl rfl)
theorem dX6_heats_133 : decode cX6_heats 133 = .ok (.aload_n 0, 1) := dk_42 (dk_at dksX6_heats_5 14 rfl rfl)
theorem dX6_heats_134 : decode cX6_heats 134 = .ok (.iload 7, 2) := dk_21 7 (dk_at dksX6_heats_5 15 rfl rfl)
theorem dX6_heats_136 : decode cX6_heats 136 = .ok (.invokevirtual 293, 3) := dk_182 1 37 (dk_at dksX6_heats_5 17 rfl rfl)
theorem dX6_heats_139 : decode cX6_heats 139 = .ok (.if_icmp .ge 12, 3) := dk_162 0 12 (dk_at dksX6_heats_5 20 rfl rfl)
theorem dX6_heats_142 : decode cX6_heats 142 = .ok (.aload_n 0, 1) := dk_42 (dk_at dksX6_heats_5 23 rfl rfl)
theorem dX6_heats_143 : decode cX6_heats 143 = .ok (.getfield 99, 3) := dk_180 0 99 (dk_at dksX6_heats_6 0 rfl rfl)
theorem dX6_heats_146 : decode cX6_heats 146 = .ok (.iload 8, 2) := dk_21 8 (dk_at dksX6_heats_6 3 rfl rfl)
theorem dX6_heats_148 : decode cX6_heats 148 = .ok (.iaload, 1) := dk_46 (dk_at dksX6_heats_6 5 rfl rfl)
theorem dX6_heats_149 : decode cX6_heats 149 = .ok (.istore 7, 2) := dk_54 7 (dk_at dksX6_heats_6 6 rfl rfl)
theorem dX6_heats_151 : decode cX6_heats 151 = .ok (.iinc 8 1, 3) := dk_132 8 1 (dk_at dksX6_heats_6 8 rfl rfl)
theorem dX6_heats_154 : decode cX6_heats 154 = .ok (.goto (-47), 3) := dk_167 255 209 (dk_at dksX6_heats_6 11 rfl rfl)
theorem dX6_heats_157 : decode cX6_heats 157 = .ok (.aload_n 0, 1) := dk_42 (dk_at dksX6_heats_6 14 rfl rfl)
theorem dX6_heats_158 : decode cX6_heats 158 = .ok (.getfield 99, 3) := dk_180 0 99 (dk_at dksX6_heats_6 15 rfl rfl)
theorem dX6_heats_161 : decode cX6_heats 161 = .ok (.iload 5, 2) := dk_21 5 (dk_at dksX6_heats_6 18 rfl rfl)
theorem dX6_heats_163 : decode cX6_heats 163 = .ok (.iload 7, 2) := dk_21 7 (dk_at dksX6_heats_6 20 rfl rfl)
theorem dX6_heats_165 : decode cX6_heats 165 = .ok (.iastore, 1) := dk_79 (dk_at dksX6_heats_6 22 rfl rfl)
theorem dX6_heats_166 : decode cX6_heats 166 = .ok (.iinc 5 1, 3) := dk_132 5 1 (dk_at dksX6_heats_7 0 rfl rfl)
theorem dX6_heats_169 : decode cX6_heats 169 = .ok (.iinc 4 1, 3) := dk_132 4 1 (dk_at dksX6_heats_7 3 rfl rfl)
theorem dX6_heats_172 : decode cX6_heats 172 = .ok (.iload 6, 2) := dk_21 6 (dk_at dksX6_heats_7 6 rfl rfl)
theorem dX6_heats_174 : decode cX6_heats 174 = .ok (.iload_n 1, 1) := dk_27 (dk_at dksX6_heats_7 8 rfl rfl)
theorem dX6_heats_175 : decode cX6_heats 175 = .ok (.iadd, 1) := dk_96 (dk_at dksX6_heats_7 9 rfl rfl)
theorem dX6_heats_176 : decode cX6_heats 176 = .ok (.istore 6, 2) := dk_54 6 (dk_at dksX6_heats_7 10 rfl rfl)
theorem dX6_heats_178 : decode cX6_heats 178 = .ok (.goto (-92), 3) := dk_167 255 164 (dk_at dksX6_heats_7 12 rfl rfl)
theorem dX6_heats_181 : decode cX6_heats 181 = .ok (.iload 5, 2) := dk_21 5 (dk_at dksX6_heats_7 15 rfl rfl)
theorem dX6_heats_183 : decode cX6_heats 183 = .ok (.istore_n 3, 1) := dk_62 (dk_at dksX6_heats_7 17 rfl rfl)
theorem dX6_heats_184 : decode cX6_heats 184 = .ok (.goto (-109), 3) := dk_167 255 147 (dk_at dksX6_heats_7 18 rfl rfl)
theorem dX6_heats_187 : decode cX6_heats 187 = .ok (.iload_n 2, 1) := dk_28 (dk_at dksX6_heats_7 21 rfl rfl)
theorem dX6_heats_188 : decode cX6_heats 188 = .ok (.ifCond .ne 12, 3) := dk_154 0 12 (dk_at dksX6_heats_8 0 rfl rfl)
theorem dX6_heats_191 : decode cX6_heats 191 = .ok (.aload_n 0, 1) := dk_42 (dk_at dksX6_heats_8 3 rfl rfl)
theorem dX6_heats_192 : decode cX6_heats 192 = .ok (.getfield 99, 3) := dk_180 0 99 (dk_at dksX6_heats_8 4 rfl rfl)
theorem dX6_heats_195 : decode cX6_heats 195 = .ok (.iconst 0, 1) := dk_3 (dk_at dksX6_heats_8 7 rfl rfl)
theorem dX6_heats_196 : decode cX6_heats 196 = .ok (.iaload, 1) := dk_46 (dk_at dksX6_heats_8 8 rfl rfl)
theorem dX6_heats_197 : decode cX6_heats 197 = .ok (.goto 5, 3) := dk_167 0 5 (dk_at dksX6_heats_8 9 rfl rfl)
theorem dX6_heats_200 : decode cX6_heats 200 = .ok (.iload 4, 2) := dk_21 4 (dk_at dksX6_heats_8 12 rfl rfl)
theorem dX6_heats_202 : decode cX6_heats 202 = .ok (.ireturn, 1) := dk_172 (dk_at dksX6_heats_8 14 rfl rfl)
abbrev cX6_legs : ByteArray := prog_23_method_76_code
def yX6_legs : MethodName := ⟨RX6, "legs", "(II)I"⟩
def dkwX6_legs_3 : List UInt8 := [132, 5, 1, 167, 255, 219, 42, 180, 0, 38, 27, 29, 79, 21, 4, 172]
abbrev dktX6_legs_3 : List UInt8 := dkwX6_legs_3 ++ []
def dkwX6_legs_2 : List UInt8 := [160, 0, 30, 42, 180, 0, 38, 27, 21, 5, 79, 42, 27, 182, 1, 37, 28, 163, 0, 7, 21, 5, 54, 4]
abbrev dktX6_legs_2 : List UInt8 := dkwX6_legs_2 ++ dktX6_legs_3
def dkwX6_legs_1 : List UInt8 := [172, 42, 180, 0, 38, 27, 46, 62, 2, 54, 4, 4, 54, 5, 21, 5, 16, 10, 162, 0, 36, 21, 4, 2]
abbrev dktX6_legs_1 : List UInt8 := dkwX6_legs_1 ++ dktX6_legs_2
def dkwX6_legs_0 : List UInt8 := [42, 27, 182, 0, 131, 154, 0, 9, 42, 2, 182, 1, 74, 172, 28, 156, 0, 10, 42, 16, 250, 182, 1, 74]
abbrev dktX6_legs_0 : List UInt8 := dkwX6_legs_0 ++ dktX6_legs_1
theorem dksX6_legs_0 : cX6_legs.data.toList.drop 0 = dktX6_legs_0 := by decide +kernel
theorem dksX6_legs_1 : cX6_legs.data.toList.drop 24 = dktX6_legs_1 := dk_seg dksX6_legs_0 24 rfl rfl
theorem dksX6_legs_2 : cX6_legs.data.toList.drop 48 = dktX6_legs_2 := dk_seg dksX6_legs_1 24 rfl rfl
theorem dksX6_legs_3 : cX6_legs.data.toList.drop 72 = dktX6_legs_3 := dk_seg dksX6_legs_2 24 rfl rfl
theorem dX6_legs_0 : decode cX6_legs 0 = .ok (.aload_n 0, 1) := dk_42 (dk_at dksX6_legs_0 0 rfl rfl)
theorem dX6_legs_1 : decode cX6_legs 1 = .ok (.iload_n 1, 1) := dk_27 (dk_at dksX6_legs_0 1 rfl rfl)
theorem dX6_legs_2 : decode cX6_legs 2 = .ok (.invokevirtual 131, 3) := dk_182 0 131 (dk_at dksX6_legs_0 2 rfl rfl)
theorem dX6_legs_5 : decode cX6_legs 5 = .ok (.ifCond .ne 9, 3) := dk_154 0 9 (dk_at dksX6_legs_0 5 rfl rfl)
theorem dX6_legs_8 : decode cX6_legs 8 = .ok (.aload_n 0, 1) := dk_42 (dk_at dksX6_legs_0 8 rfl rfl)
theorem dX6_legs_9 : decode cX6_legs 9 = .ok (.iconst (-1), 1) := dk_2 (dk_at dksX6_legs_0 9 rfl rfl)
theorem dX6_legs_10 : decode cX6_legs 10 = .ok (.invokevirtual 330, 3) := dk_182 1 74 (dk_at dksX6_legs_0 10 rfl rfl)
theorem dX6_legs_13 : decode cX6_legs 13 = .ok (.ireturn, 1) := dk_172 (dk_at dksX6_legs_0 13 rfl rfl)
theorem dX6_legs_14 : decode cX6_legs 14 = .ok (.iload_n 2, 1) := dk_28 (dk_at dksX6_legs_0 14 rfl rfl)
theorem dX6_legs_15 : decode cX6_legs 15 = .ok (.ifCond .ge 10, 3) := dk_156 0 10 (dk_at dksX6_legs_0 15 rfl rfl)
theorem dX6_legs_18 : decode cX6_legs 18 = .ok (.aload_n 0, 1) := dk_42 (dk_at dksX6_legs_0 18 rfl rfl)
theorem dX6_legs_19 : decode cX6_legs 19 = .ok (.bipush (-6), 2) := dk_16 250 (dk_at dksX6_legs_0 19 rfl rfl)
theorem dX6_legs_21 : decode cX6_legs 21 = .ok (.invokevirtual 330, 3) := dk_182 1 74 (dk_at dksX6_legs_0 21 rfl rfl)
theorem dX6_legs_24 : decode cX6_legs 24 = .ok (.ireturn, 1) := dk_172 (dk_at dksX6_legs_1 0 rfl rfl)
theorem dX6_legs_25 : decode cX6_legs 25 = .ok (.aload_n 0, 1) := dk_42 (dk_at dksX6_legs_1 1 rfl rfl)
theorem dX6_legs_26 : decode cX6_legs 26 = .ok (.getfield 38, 3) := dk_180 0 38 (dk_at dksX6_legs_1 2 rfl rfl)
theorem dX6_legs_29 : decode cX6_legs 29 = .ok (.iload_n 1, 1) := dk_27 (dk_at dksX6_legs_1 5 rfl rfl)
theorem dX6_legs_30 : decode cX6_legs 30 = .ok (.iaload, 1) := dk_46 (dk_at dksX6_legs_1 6 rfl rfl)
theorem dX6_legs_31 : decode cX6_legs 31 = .ok (.istore_n 3, 1) := dk_62 (dk_at dksX6_legs_1 7 rfl rfl)
theorem dX6_legs_32 : decode cX6_legs 32 = .ok (.iconst (-1), 1) := dk_2 (dk_at dksX6_legs_1 8 rfl rfl)
theorem dX6_legs_33 : decode cX6_legs 33 = .ok (.istore 4, 2) := dk_54 4 (dk_at dksX6_legs_1 9 rfl rfl)
theorem dX6_legs_35 : decode cX6_legs 35 = .ok (.iconst 1, 1) := dk_4 (dk_at dksX6_legs_1 11 rfl rfl)
theorem dX6_legs_36 : decode cX6_legs 36 = .ok (.istore 5, 2) := dk_54 5 (dk_at dksX6_legs_1 12 rfl rfl)
theorem dX6_legs_38 : decode cX6_legs 38 = .ok (.iload 5, 2) := dk_21 5 (dk_at dksX6_legs_1 14 rfl rfl)
theorem dX6_legs_40 : decode cX6_legs 40 = .ok (.bipush 10, 2) := dk_16 10 (dk_at dksX6_legs_1 16 rfl rfl)
theorem dX6_legs_42 : decode cX6_legs 42 = .ok (.if_icmp .ge 36, 3) := dk_162 0 36 (dk_at dksX6_legs_1 18 rfl rfl)
theorem dX6_legs_45 : decode cX6_legs 45 = .ok (.iload 4, 2) := dk_21 4 (dk_at dksX6_legs_1 21 rfl rfl)
theorem dX6_legs_47 : decode cX6_legs 47 = .ok (.iconst (-1), 1) := dk_2 (dk_at dksX6_legs_1 23 rfl rfl)
theorem dX6_legs_48 : decode cX6_legs 48 = .ok (.if_icmp .ne 30, 3) := dk_160 0 30 (dk_at dksX6_legs_2 0 rfl rfl)
theorem dX6_legs_51 : decode cX6_legs 51 = .ok (.aload_n 0, 1) := dk_42 (dk_at dksX6_legs_2 3 rfl rfl)
theorem dX6_legs_52 : decode cX6_legs 52 = .ok (.getfield 38, 3) := dk_180 0 38 (dk_at dksX6_legs_2 4 rfl rfl)
theorem dX6_legs_55 : decode cX6_legs 55 = .ok (.iload_n 1, 1) := dk_27 (dk_at dksX6_legs_2 7 rfl rfl)
theorem dX6_legs_56 : decode cX6_legs 56 = .ok (.iload 5, 2) := dk_21 5 (dk_at dksX6_legs_2 8 rfl rfl)
theorem dX6_legs_58 : decode cX6_legs 58 = .ok (.iastore, 1) := dk_79 (dk_at dksX6_legs_2 10 rfl rfl)
theorem dX6_legs_59 : decode cX6_legs 59 = .ok (.aload_n 0, 1) := dk_42 (dk_at dksX6_legs_2 11 rfl rfl)
theorem dX6_legs_60 : decode cX6_legs 60 = .ok (.iload_n 1, 1) := dk_27 (dk_at dksX6_legs_2 12 rfl rfl)
theorem dX6_legs_61 : decode cX6_legs 61 = .ok (.invokevirtual 293, 3) := dk_182 1 37 (dk_at dksX6_legs_2 13 rfl rfl)
theorem dX6_legs_64 : decode cX6_legs 64 = .ok (.iload_n 2, 1) := dk_28 (dk_at dksX6_legs_2 16 rfl rfl)
theorem dX6_legs_65 : decode cX6_legs 65 = .ok (.if_icmp .gt 7, 3) := dk_163 0 7 (dk_at dksX6_legs_2 17 rfl rfl)
theorem dX6_legs_68 : decode cX6_legs 68 = .ok (.iload 5, 2) := dk_21 5 (dk_at dksX6_legs_2 20 rfl rfl)
theorem dX6_legs_70 : decode cX6_legs 70 = .ok (.istore 4, 2) := dk_54 4 (dk_at dksX6_legs_2 22 rfl rfl)
theorem dX6_legs_72 : decode cX6_legs 72 = .ok (.iinc 5 1, 3) := dk_132 5 1 (dk_at dksX6_legs_3 0 rfl rfl)
theorem dX6_legs_75 : decode cX6_legs 75 = .ok (.goto (-37), 3) := dk_167 255 219 (dk_at dksX6_legs_3 3 rfl rfl)
theorem dX6_legs_78 : decode cX6_legs 78 = .ok (.aload_n 0, 1) := dk_42 (dk_at dksX6_legs_3 6 rfl rfl)
theorem dX6_legs_79 : decode cX6_legs 79 = .ok (.getfield 38, 3) := dk_180 0 38 (dk_at dksX6_legs_3 7 rfl rfl)
theorem dX6_legs_82 : decode cX6_legs 82 = .ok (.iload_n 1, 1) := dk_27 (dk_at dksX6_legs_3 10 rfl rfl)
theorem dX6_legs_83 : decode cX6_legs 83 = .ok (.iload_n 3, 1) := dk_29 (dk_at dksX6_legs_3 11 rfl rfl)
theorem dX6_legs_84 : decode cX6_legs 84 = .ok (.iastore, 1) := dk_79 (dk_at dksX6_legs_3 12 rfl rfl)
theorem dX6_legs_85 : decode cX6_legs 85 = .ok (.iload 4, 2) := dk_21 4 (dk_at dksX6_legs_3 13 rfl rfl)
theorem dX6_legs_87 : decode cX6_legs 87 = .ok (.ireturn, 1) := dk_172 (dk_at dksX6_legs_3 15 rfl rfl)
abbrev cX6_wall : ByteArray := prog_23_method_77_code
def yX6_wall : MethodName := ⟨RX6, "wall", "(I)I"⟩
def dkwX6_wall_2 : List UInt8 := [180, 1, 10, 158, 0, 8, 42, 180, 1, 1, 172, 132, 2, 1, 167, 255, 219, 2, 172]
abbrev dktX6_wall_2 : List UInt8 := dkwX6_wall_2 ++ []
def dkwX6_wall_1 : List UInt8 := [61, 28, 17, 3, 231, 162, 0, 36, 42, 180, 1, 1, 42, 180, 0, 7, 162, 0, 25, 42, 182, 1, 28, 42]
abbrev dktX6_wall_1 : List UInt8 := dkwX6_wall_1 ++ dktX6_wall_2
def dkwX6_wall_0 : List UInt8 := [42, 27, 182, 0, 131, 154, 0, 9, 42, 2, 182, 1, 74, 172, 42, 27, 182, 0, 134, 42, 182, 1, 25, 3]
abbrev dktX6_wall_0 : List UInt8 := dkwX6_wall_0 ++ dktX6_wall_1
theorem dksX6_wall_0 : cX6_wall.data.toList.drop 0 = dktX6_wall_0 := by decide +kernel
theorem dksX6_wall_1 : cX6_wall.data.toList.drop 24 = dktX6_wall_1 := dk_seg dksX6_wall_0 24 rfl rfl
theorem dksX6_wall_2 : cX6_wall.data.toList.drop 48 = dktX6_wall_2 := dk_seg dksX6_wall_1 24 rfl rfl
theorem dX6_wall_0 : decode cX6_wall 0 = .ok (.aload_n 0, 1) := dk_42 (dk_at dksX6_wall_0 0 rfl rfl)
theorem dX6_wall_1 : decode cX6_wall 1 = .ok (.iload_n 1, 1) := dk_27 (dk_at dksX6_wall_0 1 rfl rfl)
theorem dX6_wall_2 : decode cX6_wall 2 = .ok (.invokevirtual 131, 3) := dk_182 0 131 (dk_at dksX6_wall_0 2 rfl rfl)
theorem dX6_wall_5 : decode cX6_wall 5 = .ok (.ifCond .ne 9, 3) := dk_154 0 9 (dk_at dksX6_wall_0 5 rfl rfl)
theorem dX6_wall_8 : decode cX6_wall 8 = .ok (.aload_n 0, 1) := dk_42 (dk_at dksX6_wall_0 8 rfl rfl)
theorem dX6_wall_9 : decode cX6_wall 9 = .ok (.iconst (-1), 1) := dk_2 (dk_at dksX6_wall_0 9 rfl rfl)
theorem dX6_wall_10 : decode cX6_wall 10 = .ok (.invokevirtual 330, 3) := dk_182 1 74 (dk_at dksX6_wall_0 10 rfl rfl)
theorem dX6_wall_13 : decode cX6_wall 13 = .ok (.ireturn, 1) := dk_172 (dk_at dksX6_wall_0 13 rfl rfl)
theorem dX6_wall_14 : decode cX6_wall 14 = .ok (.aload_n 0, 1) := dk_42 (dk_at dksX6_wall_0 14 rfl rfl)
theorem dX6_wall_15 : decode cX6_wall 15 = .ok (.iload_n 1, 1) := dk_27 (dk_at dksX6_wall_0 15 rfl rfl)
theorem dX6_wall_16 : decode cX6_wall 16 = .ok (.invokevirtual 134, 3) := dk_182 0 134 (dk_at dksX6_wall_0 16 rfl rfl)
theorem dX6_wall_19 : decode cX6_wall 19 = .ok (.aload_n 0, 1) := dk_42 (dk_at dksX6_wall_0 19 rfl rfl)
theorem dX6_wall_20 : decode cX6_wall 20 = .ok (.invokevirtual 281, 3) := dk_182 1 25 (dk_at dksX6_wall_0 20 rfl rfl)
theorem dX6_wall_23 : decode cX6_wall 23 = .ok (.iconst 0, 1) := dk_3 (dk_at dksX6_wall_0 23 rfl rfl)
theorem dX6_wall_24 : decode cX6_wall 24 = .ok (.istore_n 2, 1) := dk_61 (dk_at dksX6_wall_1 0 rfl rfl)
theorem dX6_wall_25 : decode cX6_wall 25 = .ok (.iload_n 2, 1) := dk_28 (dk_at dksX6_wall_1 1 rfl rfl)
theorem dX6_wall_26 : decode cX6_wall 26 = .ok (.sipush 999, 3) := dk_17 3 231 (dk_at dksX6_wall_1 2 rfl rfl)
theorem dX6_wall_29 : decode cX6_wall 29 = .ok (.if_icmp .ge 36, 3) := dk_162 0 36 (dk_at dksX6_wall_1 5 rfl rfl)
theorem dX6_wall_32 : decode cX6_wall 32 = .ok (.aload_n 0, 1) := dk_42 (dk_at dksX6_wall_1 8 rfl rfl)
theorem dX6_wall_33 : decode cX6_wall 33 = .ok (.getfield 257, 3) := dk_180 1 1 (dk_at dksX6_wall_1 9 rfl rfl)
theorem dX6_wall_36 : decode cX6_wall 36 = .ok (.aload_n 0, 1) := dk_42 (dk_at dksX6_wall_1 12 rfl rfl)
theorem dX6_wall_37 : decode cX6_wall 37 = .ok (.getfield 7, 3) := dk_180 0 7 (dk_at dksX6_wall_1 13 rfl rfl)
theorem dX6_wall_40 : decode cX6_wall 40 = .ok (.if_icmp .ge 25, 3) := dk_162 0 25 (dk_at dksX6_wall_1 16 rfl rfl)
theorem dX6_wall_43 : decode cX6_wall 43 = .ok (.aload_n 0, 1) := dk_42 (dk_at dksX6_wall_1 19 rfl rfl)
theorem dX6_wall_44 : decode cX6_wall 44 = .ok (.invokevirtual 284, 3) := dk_182 1 28 (dk_at dksX6_wall_1 20 rfl rfl)
theorem dX6_wall_47 : decode cX6_wall 47 = .ok (.aload_n 0, 1) := dk_42 (dk_at dksX6_wall_1 23 rfl rfl)
theorem dX6_wall_48 : decode cX6_wall 48 = .ok (.getfield 266, 3) := dk_180 1 10 (dk_at dksX6_wall_2 0 rfl rfl)
theorem dX6_wall_51 : decode cX6_wall 51 = .ok (.ifCond .le 8, 3) := dk_158 0 8 (dk_at dksX6_wall_2 3 rfl rfl)
theorem dX6_wall_54 : decode cX6_wall 54 = .ok (.aload_n 0, 1) := dk_42 (dk_at dksX6_wall_2 6 rfl rfl)
theorem dX6_wall_55 : decode cX6_wall 55 = .ok (.getfield 257, 3) := dk_180 1 1 (dk_at dksX6_wall_2 7 rfl rfl)
theorem dX6_wall_58 : decode cX6_wall 58 = .ok (.ireturn, 1) := dk_172 (dk_at dksX6_wall_2 10 rfl rfl)
theorem dX6_wall_59 : decode cX6_wall 59 = .ok (.iinc 2 1, 3) := dk_132 2 1 (dk_at dksX6_wall_2 11 rfl rfl)
theorem dX6_wall_62 : decode cX6_wall 62 = .ok (.goto (-37), 3) := dk_167 255 219 (dk_at dksX6_wall_2 14 rfl rfl)
theorem dX6_wall_65 : decode cX6_wall 65 = .ok (.iconst (-1), 1) := dk_2 (dk_at dksX6_wall_2 17 rfl rfl)
theorem dX6_wall_66 : decode cX6_wall 66 = .ok (.ireturn, 1) := dk_172 (dk_at dksX6_wall_2 18 rfl rfl)
abbrev cX6_judge : ByteArray := prog_23_method_78_code
def yX6_judge : MethodName := ⟨RX6, "judge", "(II)I"⟩
def dkwX6_judge_5 : List UInt8 := [120, 128, 54, 4, 42, 21, 7, 182, 1, 37, 54, 5, 132, 6, 1, 167, 255, 187, 2, 172]
abbrev dktX6_judge_5 : List UInt8 := dkwX6_judge_5 ++ []
def dkwX6_judge_4 : List UInt8 := [126, 4, 159, 0, 14, 42, 21, 7, 182, 1, 37, 21, 5, 162, 0, 6, 21, 6, 172, 21, 4, 4, 21, 7]
abbrev dktX6_judge_4 : List UInt8 := dkwX6_judge_4 ++ dktX6_judge_5
def dkwX6_judge_3 : List UInt8 := [42, 27, 21, 6, 182, 1, 77, 54, 7, 42, 21, 7, 182, 0, 131, 153, 0, 25, 21, 4, 21, 7, 122, 4]
abbrev dktX6_judge_3 : List UInt8 := dkwX6_judge_3 ++ dktX6_judge_4
def dkwX6_judge_2 : List UInt8 := [153, 0, 9, 42, 29, 182, 1, 74, 172, 3, 54, 4, 3, 54, 5, 3, 54, 6, 21, 6, 28, 162, 0, 69]
abbrev dktX6_judge_2 : List UInt8 := dkwX6_judge_2 ++ dktX6_judge_3
def dkwX6_judge_1 : List UInt8 := [27, 46, 164, 0, 8, 16, 251, 167, 0, 15, 28, 16, 8, 164, 0, 8, 16, 250, 167, 0, 4, 3, 62, 29]
abbrev dktX6_judge_1 : List UInt8 := dkwX6_judge_1 ++ dktX6_judge_2
def dkwX6_judge_0 : List UInt8 := [42, 27, 182, 0, 214, 62, 29, 154, 0, 40, 28, 156, 0, 8, 16, 252, 167, 0, 30, 28, 42, 180, 0, 62]
abbrev dktX6_judge_0 : List UInt8 := dkwX6_judge_0 ++ dktX6_judge_1
theorem dksX6_judge_0 : cX6_judge.data.toList.drop 0 = dktX6_judge_0 := by decide +kernel
theorem dksX6_judge_1 : cX6_judge.data.toList.drop 24 = dktX6_judge_1 := dk_seg dksX6_judge_0 24 rfl rfl
theorem dksX6_judge_2 : cX6_judge.data.toList.drop 48 = dktX6_judge_2 := dk_seg dksX6_judge_1 24 rfl rfl
theorem dksX6_judge_3 : cX6_judge.data.toList.drop 72 = dktX6_judge_3 := dk_seg dksX6_judge_2 24 rfl rfl
theorem dksX6_judge_4 : cX6_judge.data.toList.drop 96 = dktX6_judge_4 := dk_seg dksX6_judge_3 24 rfl rfl
theorem dksX6_judge_5 : cX6_judge.data.toList.drop 120 = dktX6_judge_5 := dk_seg dksX6_judge_4 24 rfl rfl
theorem dX6_judge_0 : decode cX6_judge 0 = .ok (.aload_n 0, 1) := dk_42 (dk_at dksX6_judge_0 0 rfl rfl)
theorem dX6_judge_1 : decode cX6_judge 1 = .ok (.iload_n 1, 1) := dk_27 (dk_at dksX6_judge_0 1 rfl rfl)
theorem dX6_judge_2 : decode cX6_judge 2 = .ok (.invokevirtual 214, 3) := dk_182 0 214 (dk_at dksX6_judge_0 2 rfl rfl)
theorem dX6_judge_5 : decode cX6_judge 5 = .ok (.istore_n 3, 1) := dk_62 (dk_at dksX6_judge_0 5 rfl rfl)
theorem dX6_judge_6 : decode cX6_judge 6 = .ok (.iload_n 3, 1) := dk_29 (dk_at dksX6_judge_0 6 rfl rfl)
theorem dX6_judge_7 : decode cX6_judge 7 = .ok (.ifCond .ne 40, 3) := dk_154 0 40 (dk_at dksX6_judge_0 7 rfl rfl)
theorem dX6_judge_10 : decode cX6_judge 10 = .ok (.iload_n 2, 1) := dk_28 (dk_at dksX6_judge_0 10 rfl rfl)
theorem dX6_judge_11 : decode cX6_judge 11 = .ok (.ifCond .ge 8, 3) := dk_156 0 8 (dk_at dksX6_judge_0 11 rfl rfl)
theorem dX6_judge_14 : decode cX6_judge 14 = .ok (.bipush (-4), 2) := dk_16 252 (dk_at dksX6_judge_0 14 rfl rfl)
theorem dX6_judge_16 : decode cX6_judge 16 = .ok (.goto 30, 3) := dk_167 0 30 (dk_at dksX6_judge_0 16 rfl rfl)
theorem dX6_judge_19 : decode cX6_judge 19 = .ok (.iload_n 2, 1) := dk_28 (dk_at dksX6_judge_0 19 rfl rfl)
theorem dX6_judge_20 : decode cX6_judge 20 = .ok (.aload_n 0, 1) := dk_42 (dk_at dksX6_judge_0 20 rfl rfl)
theorem dX6_judge_21 : decode cX6_judge 21 = .ok (.getfield 62, 3) := dk_180 0 62 (dk_at dksX6_judge_0 21 rfl rfl)
theorem dX6_judge_24 : decode cX6_judge 24 = .ok (.iload_n 1, 1) := dk_27 (dk_at dksX6_judge_1 0 rfl rfl)
theorem dX6_judge_25 : decode cX6_judge 25 = .ok (.iaload, 1) := dk_46 (dk_at dksX6_judge_1 1 rfl rfl)
theorem dX6_judge_26 : decode cX6_judge 26 = .ok (.if_icmp .le 8, 3) := dk_164 0 8 (dk_at dksX6_judge_1 2 rfl rfl)
theorem dX6_judge_29 : decode cX6_judge 29 = .ok (.bipush (-5), 2) := dk_16 251 (dk_at dksX6_judge_1 5 rfl rfl)
theorem dX6_judge_31 : decode cX6_judge 31 = .ok (.goto 15, 3) := dk_167 0 15 (dk_at dksX6_judge_1 7 rfl rfl)
theorem dX6_judge_34 : decode cX6_judge 34 = .ok (.iload_n 2, 1) := dk_28 (dk_at dksX6_judge_1 10 rfl rfl)
theorem dX6_judge_35 : decode cX6_judge 35 = .ok (.bipush 8, 2) := dk_16 8 (dk_at dksX6_judge_1 11 rfl rfl)
theorem dX6_judge_37 : decode cX6_judge 37 = .ok (.if_icmp .le 8, 3) := dk_164 0 8 (dk_at dksX6_judge_1 13 rfl rfl)
theorem dX6_judge_40 : decode cX6_judge 40 = .ok (.bipush (-6), 2) := dk_16 250 (dk_at dksX6_judge_1 16 rfl rfl)
theorem dX6_judge_42 : decode cX6_judge 42 = .ok (.goto 4, 3) := dk_167 0 4 (dk_at dksX6_judge_1 18 rfl rfl)
theorem dX6_judge_45 : decode cX6_judge 45 = .ok (.iconst 0, 1) := dk_3 (dk_at dksX6_judge_1 21 rfl rfl)
theorem dX6_judge_46 : decode cX6_judge 46 = .ok (.istore_n 3, 1) := dk_62 (dk_at dksX6_judge_1 22 rfl rfl)
theorem dX6_judge_47 : decode cX6_judge 47 = .ok (.iload_n 3, 1) := dk_29 (dk_at dksX6_judge_1 23 rfl rfl)
theorem dX6_judge_48 : decode cX6_judge 48 = .ok (.ifCond .eq 9, 3) := dk_153 0 9 (dk_at dksX6_judge_2 0 rfl rfl)
theorem dX6_judge_51 : decode cX6_judge 51 = .ok (.aload_n 0, 1) := dk_42 (dk_at dksX6_judge_2 3 rfl rfl)
theorem dX6_judge_52 : decode cX6_judge 52 = .ok (.iload_n 3, 1) := dk_29 (dk_at dksX6_judge_2 4 rfl rfl)
theorem dX6_judge_53 : decode cX6_judge 53 = .ok (.invokevirtual 330, 3) := dk_182 1 74 (dk_at dksX6_judge_2 5 rfl rfl)
theorem dX6_judge_56 : decode cX6_judge 56 = .ok (.ireturn, 1) := dk_172 (dk_at dksX6_judge_2 8 rfl rfl)
theorem dX6_judge_57 : decode cX6_judge 57 = .ok (.iconst 0, 1) := dk_3 (dk_at dksX6_judge_2 9 rfl rfl)
theorem dX6_judge_58 : decode cX6_judge 58 = .ok (.istore 4, 2) := dk_54 4 (dk_at dksX6_judge_2 10 rfl rfl)
theorem dX6_judge_60 : decode cX6_judge 60 = .ok (.iconst 0, 1) := dk_3 (dk_at dksX6_judge_2 12 rfl rfl)
theorem dX6_judge_61 : decode cX6_judge 61 = .ok (.istore 5, 2) := dk_54 5 (dk_at dksX6_judge_2 13 rfl rfl)
theorem dX6_judge_63 : decode cX6_judge 63 = .ok (.iconst 0, 1) := dk_3 (dk_at dksX6_judge_2 15 rfl rfl)
theorem dX6_judge_64 : decode cX6_judge 64 = .ok (.istore 6, 2) := dk_54 6 (dk_at dksX6_judge_2 16 rfl rfl)
theorem dX6_judge_66 : decode cX6_judge 66 = .ok (.iload 6, 2) := dk_21 6 (dk_at dksX6_judge_2 18 rfl rfl)
theorem dX6_judge_68 : decode cX6_judge 68 = .ok (.iload_n 2, 1) := dk_28 (dk_at dksX6_judge_2 20 rfl rfl)
theorem dX6_judge_69 : decode cX6_judge 69 = .ok (.if_icmp .ge 69, 3) := dk_162 0 69 (dk_at dksX6_judge_2 21 rfl rfl)
theorem dX6_judge_72 : decode cX6_judge 72 = .ok (.aload_n 0, 1) := dk_42 (dk_at dksX6_judge_3 0 rfl rfl)
theorem dX6_judge_73 : decode cX6_judge 73 = .ok (.iload_n 1, 1) := dk_27 (dk_at dksX6_judge_3 1 rfl rfl)
theorem dX6_judge_74 : decode cX6_judge 74 = .ok (.iload 6, 2) := dk_21 6 (dk_at dksX6_judge_3 2 rfl rfl)
theorem dX6_judge_76 : decode cX6_judge 76 = .ok (.invokevirtual 333, 3) := dk_182 1 77 (dk_at dksX6_judge_3 4 rfl rfl)
theorem dX6_judge_79 : decode cX6_judge 79 = .ok (.istore 7, 2) := dk_54 7 (dk_at dksX6_judge_3 7 rfl rfl)
theorem dX6_judge_81 : decode cX6_judge 81 = .ok (.aload_n 0, 1) := dk_42 (dk_at dksX6_judge_3 9 rfl rfl)
theorem dX6_judge_82 : decode cX6_judge 82 = .ok (.iload 7, 2) := dk_21 7 (dk_at dksX6_judge_3 10 rfl rfl)
theorem dX6_judge_84 : decode cX6_judge 84 = .ok (.invokevirtual 131, 3) := dk_182 0 131 (dk_at dksX6_judge_3 12 rfl rfl)
theorem dX6_judge_87 : decode cX6_judge 87 = .ok (.ifCond .eq 25, 3) := dk_153 0 25 (dk_at dksX6_judge_3 15 rfl rfl)
theorem dX6_judge_90 : decode cX6_judge 90 = .ok (.iload 4, 2) := dk_21 4 (dk_at dksX6_judge_3 18 rfl rfl)
theorem dX6_judge_92 : decode cX6_judge 92 = .ok (.iload 7, 2) := dk_21 7 (dk_at dksX6_judge_3 20 rfl rfl)
theorem dX6_judge_94 : decode cX6_judge 94 = .ok (.ishr, 1) := dk_122 (dk_at dksX6_judge_3 22 rfl rfl)
theorem dX6_judge_95 : decode cX6_judge 95 = .ok (.iconst 1, 1) := dk_4 (dk_at dksX6_judge_3 23 rfl rfl)
theorem dX6_judge_96 : decode cX6_judge 96 = .ok (.iand, 1) := dk_126 (dk_at dksX6_judge_4 0 rfl rfl)
theorem dX6_judge_97 : decode cX6_judge 97 = .ok (.iconst 1, 1) := dk_4 (dk_at dksX6_judge_4 1 rfl rfl)
theorem dX6_judge_98 : decode cX6_judge 98 = .ok (.if_icmp .eq 14, 3) := dk_159 0 14 (dk_at dksX6_judge_4 2 rfl rfl)
theorem dX6_judge_101 : decode cX6_judge 101 = .ok (.aload_n 0, 1) := dk_42 (dk_at dksX6_judge_4 5 rfl rfl)
theorem dX6_judge_102 : decode cX6_judge 102 = .ok (.iload 7, 2) := dk_21 7 (dk_at dksX6_judge_4 6 rfl rfl)
theorem dX6_judge_104 : decode cX6_judge 104 = .ok (.invokevirtual 293, 3) := dk_182 1 37 (dk_at dksX6_judge_4 8 rfl rfl)
theorem dX6_judge_107 : decode cX6_judge 107 = .ok (.iload 5, 2) := dk_21 5 (dk_at dksX6_judge_4 11 rfl rfl)
theorem dX6_judge_109 : decode cX6_judge 109 = .ok (.if_icmp .ge 6, 3) := dk_162 0 6 (dk_at dksX6_judge_4 13 rfl rfl)
theorem dX6_judge_112 : decode cX6_judge 112 = .ok (.iload 6, 2) := dk_21 6 (dk_at dksX6_judge_4 16 rfl rfl)
theorem dX6_judge_114 : decode cX6_judge 114 = .ok (.ireturn, 1) := dk_172 (dk_at dksX6_judge_4 18 rfl rfl)
theorem dX6_judge_115 : decode cX6_judge 115 = .ok (.iload 4, 2) := dk_21 4 (dk_at dksX6_judge_4 19 rfl rfl)
theorem dX6_judge_117 : decode cX6_judge 117 = .ok (.iconst 1, 1) := dk_4 (dk_at dksX6_judge_4 21 rfl rfl)
theorem dX6_judge_118 : decode cX6_judge 118 = .ok (.iload 7, 2) := dk_21 7 (dk_at dksX6_judge_4 22 rfl rfl)
theorem dX6_judge_120 : decode cX6_judge 120 = .ok (.ishl, 1) := dk_120 (dk_at dksX6_judge_5 0 rfl rfl)
theorem dX6_judge_121 : decode cX6_judge 121 = .ok (.ior, 1) := dk_128 (dk_at dksX6_judge_5 1 rfl rfl)
theorem dX6_judge_122 : decode cX6_judge 122 = .ok (.istore 4, 2) := dk_54 4 (dk_at dksX6_judge_5 2 rfl rfl)
theorem dX6_judge_124 : decode cX6_judge 124 = .ok (.aload_n 0, 1) := dk_42 (dk_at dksX6_judge_5 4 rfl rfl)
theorem dX6_judge_125 : decode cX6_judge 125 = .ok (.iload 7, 2) := dk_21 7 (dk_at dksX6_judge_5 5 rfl rfl)
theorem dX6_judge_127 : decode cX6_judge 127 = .ok (.invokevirtual 293, 3) := dk_182 1 37 (dk_at dksX6_judge_5 7 rfl rfl)
theorem dX6_judge_130 : decode cX6_judge 130 = .ok (.istore 5, 2) := dk_54 5 (dk_at dksX6_judge_5 10 rfl rfl)
theorem dX6_judge_132 : decode cX6_judge 132 = .ok (.iinc 6 1, 3) := dk_132 6 1 (dk_at dksX6_judge_5 12 rfl rfl)
theorem dX6_judge_135 : decode cX6_judge 135 = .ok (.goto (-69), 3) := dk_167 255 187 (dk_at dksX6_judge_5 15 rfl rfl)
theorem dX6_judge_138 : decode cX6_judge 138 = .ok (.iconst (-1), 1) := dk_2 (dk_at dksX6_judge_5 18 rfl rfl)
theorem dX6_judge_139 : decode cX6_judge 139 = .ok (.ireturn, 1) := dk_172 (dk_at dksX6_judge_5 19 rfl rfl)
abbrev cX6_intAt : ByteArray := prog_23_method_16_code
def yX6_intAt : MethodName := ⟨RX6, "intAt", "(II)I"⟩
def dkwX6_intAt_0 : List UInt8 := [42, 180, 0, 68, 17, 0, 160, 27, 104, 28, 96, 47, 136, 172]
abbrev dktX6_intAt_0 : List UInt8 := dkwX6_intAt_0 ++ []
theorem dksX6_intAt_0 : cX6_intAt.data.toList.drop 0 = dktX6_intAt_0 := by decide +kernel
theorem dX6_intAt_0 : decode cX6_intAt 0 = .ok (.aload_n 0, 1) := dk_42 (dk_at dksX6_intAt_0 0 rfl rfl)
theorem dX6_intAt_1 : decode cX6_intAt 1 = .ok (.getfield 68, 3) := dk_180 0 68 (dk_at dksX6_intAt_0 1 rfl rfl)
theorem dX6_intAt_4 : decode cX6_intAt 4 = .ok (.sipush 160, 3) := dk_17 0 160 (dk_at dksX6_intAt_0 4 rfl rfl)
theorem dX6_intAt_7 : decode cX6_intAt 7 = .ok (.iload_n 1, 1) := dk_27 (dk_at dksX6_intAt_0 7 rfl rfl)
theorem dX6_intAt_8 : decode cX6_intAt 8 = .ok (.imul, 1) := dk_104 (dk_at dksX6_intAt_0 8 rfl rfl)
theorem dX6_intAt_9 : decode cX6_intAt 9 = .ok (.iload_n 2, 1) := dk_28 (dk_at dksX6_intAt_0 9 rfl rfl)
theorem dX6_intAt_10 : decode cX6_intAt 10 = .ok (.iadd, 1) := dk_96 (dk_at dksX6_intAt_0 10 rfl rfl)
theorem dX6_intAt_11 : decode cX6_intAt 11 = .ok (.laload, 1) := dk_47 (dk_at dksX6_intAt_0 11 rfl rfl)
theorem dX6_intAt_12 : decode cX6_intAt 12 = .ok (.l2i, 1) := dk_136 (dk_at dksX6_intAt_0 12 rfl rfl)
theorem dX6_intAt_13 : decode cX6_intAt 13 = .ok (.ireturn, 1) := dk_172 (dk_at dksX6_intAt_0 13 rfl rfl)
abbrev cX6_meant : ByteArray := prog_23_method_79_code
def yX6_meant : MethodName := ⟨RX6, "meant", "(I)I"⟩
def dkwX6_meant_4 : List UInt8 := [153, 0, 10, 29, 4, 21, 4, 120, 128, 62, 132, 4, 1, 167, 255, 192, 29, 172]
abbrev dktX6_meant_4 : List UInt8 := dkwX6_meant_4 ++ []
def dkwX6_meant_3 : List UInt8 := [182, 1, 43, 42, 27, 21, 6, 182, 1, 77, 159, 0, 6, 3, 54, 5, 132, 6, 1, 167, 255, 223, 21, 5]
abbrev dktX6_meant_3 : List UInt8 := dkwX6_meant_3 ++ dktX6_meant_4
def dkwX6_meant_2 : List UInt8 := [162, 0, 63, 4, 54, 5, 3, 54, 6, 21, 6, 42, 180, 0, 117, 162, 0, 30, 42, 21, 6, 21, 4]
abbrev dktX6_meant_2 : List UInt8 := dkwX6_meant_2 ++ dktX6_meant_3
def dkwX6_meant_1 : List UInt8 := [16, 251, 61, 28, 153, 0, 9, 42, 28, 182, 0, 127, 172, 3, 62, 3, 54, 4, 21, 4, 16, 7]
abbrev dktX6_meant_1 : List UInt8 := dkwX6_meant_1 ++ dktX6_meant_2
def dkwX6_meant_0 : List UInt8 := [42, 27, 182, 0, 214, 61, 28, 154, 0, 19, 42, 180, 0, 62, 27, 46, 42, 180, 0, 117, 162, 0, 6]
abbrev dktX6_meant_0 : List UInt8 := dkwX6_meant_0 ++ dktX6_meant_1
theorem dksX6_meant_0 : cX6_meant.data.toList.drop 0 = dktX6_meant_0 := by decide +kernel
theorem dksX6_meant_1 : cX6_meant.data.toList.drop 23 = dktX6_meant_1 := dk_seg dksX6_meant_0 23 rfl rfl
theorem dksX6_meant_2 : cX6_meant.data.toList.drop 45 = dktX6_meant_2 := dk_seg dksX6_meant_1 22 rfl rfl
theorem dksX6_meant_3 : cX6_meant.data.toList.drop 68 = dktX6_meant_3 := dk_seg dksX6_meant_2 23 rfl rfl
theorem dksX6_meant_4 : cX6_meant.data.toList.drop 92 = dktX6_meant_4 := dk_seg dksX6_meant_3 24 rfl rfl
theorem dX6_meant_0 : decode cX6_meant 0 = .ok (.aload_n 0, 1) := dk_42 (dk_at dksX6_meant_0 0 rfl rfl)
theorem dX6_meant_1 : decode cX6_meant 1 = .ok (.iload_n 1, 1) := dk_27 (dk_at dksX6_meant_0 1 rfl rfl)
theorem dX6_meant_2 : decode cX6_meant 2 = .ok (.invokevirtual 214, 3) := dk_182 0 214 (dk_at dksX6_meant_0 2 rfl rfl)
theorem dX6_meant_5 : decode cX6_meant 5 = .ok (.istore_n 2, 1) := dk_61 (dk_at dksX6_meant_0 5 rfl rfl)
theorem dX6_meant_6 : decode cX6_meant 6 = .ok (.iload_n 2, 1) := dk_28 (dk_at dksX6_meant_0 6 rfl rfl)
theorem dX6_meant_7 : decode cX6_meant 7 = .ok (.ifCond .ne 19, 3) := dk_154 0 19 (dk_at dksX6_meant_0 7 rfl rfl)
theorem dX6_meant_10 : decode cX6_meant 10 = .ok (.aload_n 0, 1) := dk_42 (dk_at dksX6_meant_0 10 rfl rfl)
theorem dX6_meant_11 : decode cX6_meant 11 = .ok (.getfield 62, 3) := dk_180 0 62 (dk_at dksX6_meant_0 11 rfl rfl)
theorem dX6_meant_14 : decode cX6_meant 14 = .ok (.iload_n 1, 1) := dk_27 (dk_at dksX6_meant_0 14 rfl rfl)
theorem dX6_meant_15 : decode cX6_meant 15 = .ok (.iaload, 1) := dk_46 (dk_at dksX6_meant_0 15 rfl rfl)
theorem dX6_meant_16 : decode cX6_meant 16 = .ok (.aload_n 0, 1) := dk_42 (dk_at dksX6_meant_0 16 rfl rfl)
theorem dX6_meant_17 : decode cX6_meant 17 = .ok (.getfield 117, 3) := dk_180 0 117 (dk_at dksX6_meant_0 17 rfl rfl)
theorem dX6_meant_20 : decode cX6_meant 20 = .ok (.if_icmp .ge 6, 3) := dk_162 0 6 (dk_at dksX6_meant_0 20 rfl rfl)
theorem dX6_meant_23 : decode cX6_meant 23 = .ok (.bipush (-5), 2) := dk_16 251 (dk_at dksX6_meant_1 0 rfl rfl)
theorem dX6_meant_25 : decode cX6_meant 25 = .ok (.istore_n 2, 1) := dk_61 (dk_at dksX6_meant_1 2 rfl rfl)
theorem dX6_meant_26 : decode cX6_meant 26 = .ok (.iload_n 2, 1) := dk_28 (dk_at dksX6_meant_1 3 rfl rfl)
theorem dX6_meant_27 : decode cX6_meant 27 = .ok (.ifCond .eq 9, 3) := dk_153 0 9 (dk_at dksX6_meant_1 4 rfl rfl)
theorem dX6_meant_30 : decode cX6_meant 30 = .ok (.aload_n 0, 1) := dk_42 (dk_at dksX6_meant_1 7 rfl rfl)
theorem dX6_meant_31 : decode cX6_meant 31 = .ok (.iload_n 2, 1) := dk_28 (dk_at dksX6_meant_1 8 rfl rfl)
theorem dX6_meant_32 : decode cX6_meant 32 = .ok (.invokevirtual 127, 3) := dk_182 0 127 (dk_at dksX6_meant_1 9 rfl rfl)
theorem dX6_meant_35 : decode cX6_meant 35 = .ok (.ireturn, 1) := dk_172 (dk_at dksX6_meant_1 12 rfl rfl)
theorem dX6_meant_36 : decode cX6_meant 36 = .ok (.iconst 0, 1) := dk_3 (dk_at dksX6_meant_1 13 rfl rfl)
theorem dX6_meant_37 : decode cX6_meant 37 = .ok (.istore_n 3, 1) := dk_62 (dk_at dksX6_meant_1 14 rfl rfl)
theorem dX6_meant_38 : decode cX6_meant 38 = .ok (.iconst 0, 1) := dk_3 (dk_at dksX6_meant_1 15 rfl rfl)
theorem dX6_meant_39 : decode cX6_meant 39 = .ok (.istore 4, 2) := dk_54 4 (dk_at dksX6_meant_1 16 rfl rfl)
theorem dX6_meant_41 : decode cX6_meant 41 = .ok (.iload 4, 2) := dk_21 4 (dk_at dksX6_meant_1 18 rfl rfl)
theorem dX6_meant_43 : decode cX6_meant 43 = .ok (.bipush 7, 2) := dk_16 7 (dk_at dksX6_meant_1 20 rfl rfl)
theorem dX6_meant_45 : decode cX6_meant 45 = .ok (.if_icmp .ge 63, 3) := dk_162 0 63 (dk_at dksX6_meant_2 0 rfl rfl)
theorem dX6_meant_48 : decode cX6_meant 48 = .ok (.iconst 1, 1) := dk_4 (dk_at dksX6_meant_2 3 rfl rfl)
theorem dX6_meant_49 : decode cX6_meant 49 = .ok (.istore 5, 2) := dk_54 5 (dk_at dksX6_meant_2 4 rfl rfl)
theorem dX6_meant_51 : decode cX6_meant 51 = .ok (.iconst 0, 1) := dk_3 (dk_at dksX6_meant_2 6 rfl rfl)
theorem dX6_meant_52 : decode cX6_meant 52 = .ok (.istore 6, 2) := dk_54 6 (dk_at dksX6_meant_2 7 rfl rfl)
theorem dX6_meant_54 : decode cX6_meant 54 = .ok (.iload 6, 2) := dk_21 6 (dk_at dksX6_meant_2 9 rfl rfl)
theorem dX6_meant_56 : decode cX6_meant 56 = .ok (.aload_n 0, 1) := dk_42 (dk_at dksX6_meant_2 11 rfl rfl)
theorem dX6_meant_57 : decode cX6_meant 57 = .ok (.getfield 117, 3) := dk_180 0 117 (dk_at dksX6_meant_2 12 rfl rfl)
theorem dX6_meant_60 : decode cX6_meant 60 = .ok (.if_icmp .ge 30, 3) := dk_162 0 30 (dk_at dksX6_meant_2 15 rfl rfl)
theorem dX6_meant_63 : decode cX6_meant 63 = .ok (.aload_n 0, 1) := dk_42 (dk_at dksX6_meant_2 18 rfl rfl)
theorem dX6_meant_64 : decode cX6_meant 64 = .ok (.iload 6, 2) := dk_21 6 (dk_at dksX6_meant_2 19 rfl rfl)
theorem dX6_meant_66 : decode cX6_meant 66 = .ok (.iload 4, 2) := dk_21 4 (dk_at dksX6_meant_2 21 rfl rfl)
theorem dX6_meant_68 : decode cX6_meant 68 = .ok (.invokevirtual 299, 3) := dk_182 1 43 (dk_at dksX6_meant_3 0 rfl rfl)
theorem dX6_meant_71 : decode cX6_meant 71 = .ok (.aload_n 0, 1) := dk_42 (dk_at dksX6_meant_3 3 rfl rfl)
theorem dX6_meant_72 : decode cX6_meant 72 = .ok (.iload_n 1, 1) := dk_27 (dk_at dksX6_meant_3 4 rfl rfl)
theorem dX6_meant_73 : decode cX6_meant 73 = .ok (.iload 6, 2) := dk_21 6 (dk_at dksX6_meant_3 5 rfl rfl)
theorem dX6_meant_75 : decode cX6_meant 75 = .ok (.invokevirtual 333, 3) := dk_182 1 77 (dk_at dksX6_meant_3 7 rfl rfl)
theorem dX6_meant_78 : decode cX6_meant 78 = .ok (.if_icmp .eq 6, 3) := dk_159 0 6 (dk_at dksX6_meant_3 10 rfl rfl)
theorem dX6_meant_81 : decode cX6_meant 81 = .ok (.iconst 0, 1) := dk_3 (dk_at dksX6_meant_3 13 rfl rfl)
theorem dX6_meant_82 : decode cX6_meant 82 = .ok (.istore 5, 2) := dk_54 5 (dk_at dksX6_meant_3 14 rfl rfl)
theorem dX6_meant_84 : decode cX6_meant 84 = .ok (.iinc 6 1, 3) := dk_132 6 1 (dk_at dksX6_meant_3 16 rfl rfl)
theorem dX6_meant_87 : decode cX6_meant 87 = .ok (.goto (-33), 3) := dk_167 255 223 (dk_at dksX6_meant_3 19 rfl rfl)
theorem dX6_meant_90 : decode cX6_meant 90 = .ok (.iload 5, 2) := dk_21 5 (dk_at dksX6_meant_3 22 rfl rfl)
theorem dX6_meant_92 : decode cX6_meant 92 = .ok (.ifCond .eq 10, 3) := dk_153 0 10 (dk_at dksX6_meant_4 0 rfl rfl)
theorem dX6_meant_95 : decode cX6_meant 95 = .ok (.iload_n 3, 1) := dk_29 (dk_at dksX6_meant_4 3 rfl rfl)
theorem dX6_meant_96 : decode cX6_meant 96 = .ok (.iconst 1, 1) := dk_4 (dk_at dksX6_meant_4 4 rfl rfl)
theorem dX6_meant_97 : decode cX6_meant 97 = .ok (.iload 4, 2) := dk_21 4 (dk_at dksX6_meant_4 5 rfl rfl)
theorem dX6_meant_99 : decode cX6_meant 99 = .ok (.ishl, 1) := dk_120 (dk_at dksX6_meant_4 7 rfl rfl)
theorem dX6_meant_100 : decode cX6_meant 100 = .ok (.ior, 1) := dk_128 (dk_at dksX6_meant_4 8 rfl rfl)
theorem dX6_meant_101 : decode cX6_meant 101 = .ok (.istore_n 3, 1) := dk_62 (dk_at dksX6_meant_4 9 rfl rfl)
theorem dX6_meant_102 : decode cX6_meant 102 = .ok (.iinc 4 1, 3) := dk_132 4 1 (dk_at dksX6_meant_4 10 rfl rfl)
theorem dX6_meant_105 : decode cX6_meant 105 = .ok (.goto (-64), 3) := dk_167 255 192 (dk_at dksX6_meant_4 13 rfl rfl)
theorem dX6_meant_108 : decode cX6_meant 108 = .ok (.iload_n 3, 1) := dk_29 (dk_at dksX6_meant_4 16 rfl rfl)
theorem dX6_meant_109 : decode cX6_meant 109 = .ok (.ireturn, 1) := dk_172 (dk_at dksX6_meant_4 17 rfl rfl)
abbrev cX6_worn : ByteArray := prog_23_method_80_code
def yX6_worn : MethodName := ⟨RX6, "worn", "(II)I"⟩
def dkwX6_worn_2 : List UInt8 := [132, 4, 1, 167, 255, 226, 29, 172]
abbrev dktX6_worn_2 : List UInt8 := dkwX6_worn_2 ++ []
def dkwX6_worn_1 : List UInt8 := [180, 0, 120, 162, 0, 27, 42, 27, 21, 4, 182, 1, 46, 28, 160, 0, 10, 29, 4, 21, 4, 120, 128, 62]
abbrev dktX6_worn_1 : List UInt8 := dkwX6_worn_1 ++ dktX6_worn_2
def dkwX6_worn_0 : List UInt8 := [42, 27, 182, 0, 131, 154, 0, 9, 42, 2, 182, 0, 127, 172, 3, 62, 3, 54, 4, 21, 4, 42]
abbrev dktX6_worn_0 : List UInt8 := dkwX6_worn_0 ++ dktX6_worn_1
theorem dksX6_worn_0 : cX6_worn.data.toList.drop 0 = dktX6_worn_0 := by decide +kernel
theorem dksX6_worn_1 : cX6_worn.data.toList.drop 22 = dktX6_worn_1 := dk_seg dksX6_worn_0 22 rfl rfl
theorem dksX6_worn_2 : cX6_worn.data.toList.drop 46 = dktX6_worn_2 := dk_seg dksX6_worn_1 24 rfl rfl
theorem dX6_worn_0 : decode cX6_worn 0 = .ok (.aload_n 0, 1) := dk_42 (dk_at dksX6_worn_0 0 rfl rfl)
theorem dX6_worn_1 : decode cX6_worn 1 = .ok (.iload_n 1, 1) := dk_27 (dk_at dksX6_worn_0 1 rfl rfl)
theorem dX6_worn_2 : decode cX6_worn 2 = .ok (.invokevirtual 131, 3) := dk_182 0 131 (dk_at dksX6_worn_0 2 rfl rfl)
theorem dX6_worn_5 : decode cX6_worn 5 = .ok (.ifCond .ne 9, 3) := dk_154 0 9 (dk_at dksX6_worn_0 5 rfl rfl)
theorem dX6_worn_8 : decode cX6_worn 8 = .ok (.aload_n 0, 1) := dk_42 (dk_at dksX6_worn_0 8 rfl rfl)
theorem dX6_worn_9 : decode cX6_worn 9 = .ok (.iconst (-1), 1) := dk_2 (dk_at dksX6_worn_0 9 rfl rfl)
theorem dX6_worn_10 : decode cX6_worn 10 = .ok (.invokevirtual 127, 3) := dk_182 0 127 (dk_at dksX6_worn_0 10 rfl rfl)
theorem dX6_worn_13 : decode cX6_worn 13 = .ok (.ireturn, 1) := dk_172 (dk_at dksX6_worn_0 13 rfl rfl)
theorem dX6_worn_14 : decode cX6_worn 14 = .ok (.iconst 0, 1) := dk_3 (dk_at dksX6_worn_0 14 rfl rfl)
theorem dX6_worn_15 : decode cX6_worn 15 = .ok (.istore_n 3, 1) := dk_62 (dk_at dksX6_worn_0 15 rfl rfl)
theorem dX6_worn_16 : decode cX6_worn 16 = .ok (.iconst 0, 1) := dk_3 (dk_at dksX6_worn_0 16 rfl rfl)
theorem dX6_worn_17 : decode cX6_worn 17 = .ok (.istore 4, 2) := dk_54 4 (dk_at dksX6_worn_0 17 rfl rfl)
theorem dX6_worn_19 : decode cX6_worn 19 = .ok (.iload 4, 2) := dk_21 4 (dk_at dksX6_worn_0 19 rfl rfl)
theorem dX6_worn_21 : decode cX6_worn 21 = .ok (.aload_n 0, 1) := dk_42 (dk_at dksX6_worn_0 21 rfl rfl)
theorem dX6_worn_22 : decode cX6_worn 22 = .ok (.getfield 120, 3) := dk_180 0 120 (dk_at dksX6_worn_1 0 rfl rfl)
theorem dX6_worn_25 : decode cX6_worn 25 = .ok (.if_icmp .ge 27, 3) := dk_162 0 27 (dk_at dksX6_worn_1 3 rfl rfl)
theorem dX6_worn_28 : decode cX6_worn 28 = .ok (.aload_n 0, 1) := dk_42 (dk_at dksX6_worn_1 6 rfl rfl)
theorem dX6_worn_29 : decode cX6_worn 29 = .ok (.iload_n 1, 1) := dk_27 (dk_at dksX6_worn_1 7 rfl rfl)
theorem dX6_worn_30 : decode cX6_worn 30 = .ok (.iload 4, 2) := dk_21 4 (dk_at dksX6_worn_1 8 rfl rfl)
theorem dX6_worn_32 : decode cX6_worn 32 = .ok (.invokevirtual 302, 3) := dk_182 1 46 (dk_at dksX6_worn_1 10 rfl rfl)
theorem dX6_worn_35 : decode cX6_worn 35 = .ok (.iload_n 2, 1) := dk_28 (dk_at dksX6_worn_1 13 rfl rfl)
theorem dX6_worn_36 : decode cX6_worn 36 = .ok (.if_icmp .ne 10, 3) := dk_160 0 10 (dk_at dksX6_worn_1 14 rfl rfl)
theorem dX6_worn_39 : decode cX6_worn 39 = .ok (.iload_n 3, 1) := dk_29 (dk_at dksX6_worn_1 17 rfl rfl)
theorem dX6_worn_40 : decode cX6_worn 40 = .ok (.iconst 1, 1) := dk_4 (dk_at dksX6_worn_1 18 rfl rfl)
theorem dX6_worn_41 : decode cX6_worn 41 = .ok (.iload 4, 2) := dk_21 4 (dk_at dksX6_worn_1 19 rfl rfl)
theorem dX6_worn_43 : decode cX6_worn 43 = .ok (.ishl, 1) := dk_120 (dk_at dksX6_worn_1 21 rfl rfl)
theorem dX6_worn_44 : decode cX6_worn 44 = .ok (.ior, 1) := dk_128 (dk_at dksX6_worn_1 22 rfl rfl)
theorem dX6_worn_45 : decode cX6_worn 45 = .ok (.istore_n 3, 1) := dk_62 (dk_at dksX6_worn_1 23 rfl rfl)
theorem dX6_worn_46 : decode cX6_worn 46 = .ok (.iinc 4 1, 3) := dk_132 4 1 (dk_at dksX6_worn_2 0 rfl rfl)
theorem dX6_worn_49 : decode cX6_worn 49 = .ok (.goto (-30), 3) := dk_167 255 226 (dk_at dksX6_worn_2 3 rfl rfl)
theorem dX6_worn_52 : decode cX6_worn 52 = .ok (.iload_n 3, 1) := dk_29 (dk_at dksX6_worn_2 6 rfl rfl)
theorem dX6_worn_53 : decode cX6_worn 53 = .ok (.ireturn, 1) := dk_172 (dk_at dksX6_worn_2 7 rfl rfl)
abbrev cX6_race : ByteArray := prog_23_method_84_code
def yX6_race : MethodName := ⟨RX6, "race", "()I"⟩
def dkwX6_race_0 : List UInt8 := [42, 180, 0, 117, 154, 0, 12, 42, 16, 251, 182, 1, 74, 167, 0, 7, 42, 182, 1, 87, 172]
abbrev dktX6_race_0 : List UInt8 := dkwX6_race_0 ++ []
theorem dksX6_race_0 : cX6_race.data.toList.drop 0 = dktX6_race_0 := by decide +kernel
theorem dX6_race_0 : decode cX6_race 0 = .ok (.aload_n 0, 1) := dk_42 (dk_at dksX6_race_0 0 rfl rfl)
theorem dX6_race_1 : decode cX6_race 1 = .ok (.getfield 117, 3) := dk_180 0 117 (dk_at dksX6_race_0 1 rfl rfl)
theorem dX6_race_4 : decode cX6_race 4 = .ok (.ifCond .ne 12, 3) := dk_154 0 12 (dk_at dksX6_race_0 4 rfl rfl)
theorem dX6_race_7 : decode cX6_race 7 = .ok (.aload_n 0, 1) := dk_42 (dk_at dksX6_race_0 7 rfl rfl)
theorem dX6_race_8 : decode cX6_race 8 = .ok (.bipush (-5), 2) := dk_16 251 (dk_at dksX6_race_0 8 rfl rfl)
theorem dX6_race_10 : decode cX6_race 10 = .ok (.invokevirtual 330, 3) := dk_182 1 74 (dk_at dksX6_race_0 10 rfl rfl)
theorem dX6_race_13 : decode cX6_race 13 = .ok (.goto 7, 3) := dk_167 0 7 (dk_at dksX6_race_0 13 rfl rfl)
theorem dX6_race_16 : decode cX6_race 16 = .ok (.aload_n 0, 1) := dk_42 (dk_at dksX6_race_0 16 rfl rfl)
theorem dX6_race_17 : decode cX6_race 17 = .ok (.invokevirtual 343, 3) := dk_182 1 87 (dk_at dksX6_race_0 17 rfl rfl)
theorem dX6_race_20 : decode cX6_race 20 = .ok (.ireturn, 1) := dk_172 (dk_at dksX6_race_0 20 rfl rfl)
abbrev cX6_raced : ByteArray := prog_23_method_83_code
def yX6_raced : MethodName := ⟨RX6, "raced", "()I"⟩
def dkwX6_raced_12 : List UInt8 := [159, 0, 13, 42, 180, 0, 47, 27, 92, 46, 4, 96, 79, 27, 172]
abbrev dktX6_raced_12 : List UInt8 := dkwX6_raced_12 ++ []
def dkwX6_raced_11 : List UInt8 := [180, 0, 111, 28, 46, 42, 180, 0, 111, 27, 46, 162, 0, 5, 28, 60, 132, 2, 1, 167, 255, 211, 27, 2]
abbrev dktX6_raced_11 : List UInt8 := dkwX6_raced_11 ++ dktX6_raced_12
def dkwX6_raced_10 : List UInt8 := [180, 0, 117, 162, 0, 43, 42, 180, 0, 111, 28, 46, 17, 3, 231, 162, 0, 25, 27, 2, 159, 0, 18, 42]
abbrev dktX6_raced_10 : List UInt8 := dkwX6_raced_10 ++ dktX6_raced_11
def dkwX6_raced_9 : List UInt8 := [182, 1, 31, 79, 132, 2, 1, 167, 255, 138, 132, 1, 1, 167, 255, 123, 2, 60, 3, 61, 28, 42]
abbrev dktX6_raced_9 : List UInt8 := dkwX6_raced_9 ++ dktX6_raced_10
def dkwX6_raced_8 : List UInt8 := [28, 42, 180, 1, 7, 79, 42, 180, 1, 1, 42, 180, 0, 7, 161, 0, 14, 42, 180, 0, 111, 28, 42, 27]
abbrev dktX6_raced_8 : List UInt8 := dkwX6_raced_8 ++ dktX6_raced_9
def dkwX6_raced_7 : List UInt8 := [42, 180, 0, 102, 28, 42, 180, 1, 1, 79, 42, 180, 0, 105, 28, 42, 180, 0, 254, 79, 42, 180, 0, 108]
abbrev dktX6_raced_7 : List UInt8 := dkwX6_raced_7 ++ dktX6_raced_8
def dkwX6_raced_6 : List UInt8 := [42, 42, 180, 0, 105, 28, 46, 181, 0, 254, 42, 42, 180, 0, 108, 28, 46, 181, 1, 7, 42, 182, 1, 84]
abbrev dktX6_raced_6 : List UInt8 := dkwX6_raced_6 ++ dktX6_raced_7
def dkwX6_raced_5 : List UInt8 := [180, 0, 7, 161, 0, 6, 167, 0, 94, 42, 28, 182, 0, 134, 42, 42, 180, 0, 102, 28, 46, 181, 1, 1]
abbrev dktX6_raced_5 : List UInt8 := dkwX6_raced_5 ++ dktX6_raced_6
def dkwX6_raced_4 : List UInt8 := [17, 3, 231, 163, 0, 132, 3, 61, 28, 42, 180, 0, 117, 162, 0, 116, 42, 180, 0, 102, 28, 46, 42]
abbrev dktX6_raced_4 : List UInt8 := dkwX6_raced_4 ++ dktX6_raced_5
def dkwX6_raced_3 : List UInt8 := [162, 0, 9, 17, 3, 231, 167, 0, 8, 42, 3, 182, 1, 31, 79, 132, 1, 1, 167, 255, 181, 4, 60, 27]
abbrev dktX6_raced_3 : List UInt8 := dkwX6_raced_3 ++ dktX6_raced_4
def dkwX6_raced_2 : List UInt8 := [180, 0, 254, 79, 42, 180, 0, 108, 27, 3, 79, 42, 180, 0, 111, 27, 42, 180, 1, 1, 42, 180, 0, 7]
abbrev dktX6_raced_2 : List UInt8 := dkwX6_raced_2 ++ dktX6_raced_3
def dkwX6_raced_1 : List UInt8 := [182, 0, 134, 42, 182, 1, 25, 42, 180, 0, 102, 27, 42, 180, 1, 1, 79, 42, 180, 0, 105, 27, 42]
abbrev dktX6_raced_1 : List UInt8 := dkwX6_raced_1 ++ dktX6_raced_2
def dkwX6_raced_0 : List UInt8 := [42, 89, 180, 0, 211, 4, 96, 181, 0, 211, 3, 60, 27, 42, 180, 0, 117, 162, 0, 73, 42, 27]
abbrev dktX6_raced_0 : List UInt8 := dkwX6_raced_0 ++ dktX6_raced_1
theorem dksX6_raced_0 : cX6_raced.data.toList.drop 0 = dktX6_raced_0 := by decide +kernel
theorem dksX6_raced_1 : cX6_raced.data.toList.drop 22 = dktX6_raced_1 := dk_seg dksX6_raced_0 22 rfl rfl
theorem dksX6_raced_2 : cX6_raced.data.toList.drop 45 = dktX6_raced_2 := dk_seg dksX6_raced_1 23 rfl rfl
theorem dksX6_raced_3 : cX6_raced.data.toList.drop 69 = dktX6_raced_3 := dk_seg dksX6_raced_2 24 rfl rfl
theorem dksX6_raced_4 : cX6_raced.data.toList.drop 93 = dktX6_raced_4 := dk_seg dksX6_raced_3 24 rfl rfl
theorem dksX6_raced_5 : cX6_raced.data.toList.drop 116 = dktX6_raced_5 := dk_seg dksX6_raced_4 23 rfl rfl
theorem dksX6_raced_6 : cX6_raced.data.toList.drop 140 = dktX6_raced_6 := dk_seg dksX6_raced_5 24 rfl rfl
theorem dksX6_raced_7 : cX6_raced.data.toList.drop 164 = dktX6_raced_7 := dk_seg dksX6_raced_6 24 rfl rfl
theorem dksX6_raced_8 : cX6_raced.data.toList.drop 188 = dktX6_raced_8 := dk_seg dksX6_raced_7 24 rfl rfl
theorem dksX6_raced_9 : cX6_raced.data.toList.drop 212 = dktX6_raced_9 := dk_seg dksX6_raced_8 24 rfl rfl
theorem dksX6_raced_10 : cX6_raced.data.toList.drop 234 = dktX6_raced_10 := dk_seg dksX6_raced_9 22 rfl rfl
theorem dksX6_raced_11 : cX6_raced.data.toList.drop 258 = dktX6_raced_11 := dk_seg dksX6_raced_10 24 rfl rfl
theorem dksX6_raced_12 : cX6_raced.data.toList.drop 282 = dktX6_raced_12 := dk_seg dksX6_raced_11 24 rfl rfl
theorem dX6_raced_0 : decode cX6_raced 0 = .ok (.aload_n 0, 1) := dk_42 (dk_at dksX6_raced_0 0 rfl rfl)
theorem dX6_raced_1 : decode cX6_raced 1 = .ok (.dup, 1) := dk_89 (dk_at dksX6_raced_0 1 rfl rfl)
theorem dX6_raced_2 : decode cX6_raced 2 = .ok (.getfield 211, 3) := dk_180 0 211 (dk_at dksX6_raced_0 2 rfl rfl)
theorem dX6_raced_5 : decode cX6_raced 5 = .ok (.iconst 1, 1) := dk_4 (dk_at dksX6_raced_0 5 rfl rfl)
theorem dX6_raced_6 : decode cX6_raced 6 = .ok (.iadd, 1) := dk_96 (dk_at dksX6_raced_0 6 rfl rfl)
theorem dX6_raced_7 : decode cX6_raced 7 = .ok (.putfield 211, 3) := dk_181 0 211 (dk_at dksX6_raced_0 7 rfl rfl)
theorem dX6_raced_10 : decode cX6_raced 10 = .ok (.iconst 0, 1) := dk_3 (dk_at dksX6_raced_0 10 rfl rfl)
theorem dX6_raced_11 : decode cX6_raced 11 = .ok (.istore_n 1, 1) := dk_60 (dk_at dksX6_raced_0 11 rfl rfl)
theorem dX6_raced_12 : decode cX6_raced 12 = .ok (.iload_n 1, 1) := dk_27 (dk_at dksX6_raced_0 12 rfl rfl)
theorem dX6_raced_13 : decode cX6_raced 13 = .ok (.aload_n 0, 1) := dk_42 (dk_at dksX6_raced_0 13 rfl rfl)
theorem dX6_raced_14 : decode cX6_raced 14 = .ok (.getfield 117, 3) := dk_180 0 117 (dk_at dksX6_raced_0 14 rfl rfl)
theorem dX6_raced_17 : decode cX6_raced 17 = .ok (.if_icmp .ge 73, 3) := dk_162 0 73 (dk_at dksX6_raced_0 17 rfl rfl)
theorem dX6_raced_20 : decode cX6_raced 20 = .ok (.aload_n 0, 1) := dk_42 (dk_at dksX6_raced_0 20 rfl rfl)
theorem dX6_raced_21 : decode cX6_raced 21 = .ok (.iload_n 1, 1) := dk_27 (dk_at dksX6_raced_0 21 rfl rfl)
theorem dX6_raced_22 : decode cX6_raced 22 = .ok (.invokevirtual 134, 3) := dk_182 0 134 (dk_at dksX6_raced_1 0 rfl rfl)
theorem dX6_raced_25 : decode cX6_raced 25 = .ok (.aload_n 0, 1) := dk_42 (dk_at dksX6_raced_1 3 rfl rfl)
theorem dX6_raced_26 : decode cX6_raced 26 = .ok (.invokevirtual 281, 3) := dk_182 1 25 (dk_at dksX6_raced_1 4 rfl rfl)
theorem dX6_raced_29 : decode cX6_raced 29 = .ok (.aload_n 0, 1) := dk_42 (dk_at dksX6_raced_1 7 rfl rfl)
theorem dX6_raced_30 : decode cX6_raced 30 = .ok (.getfield 102, 3) := dk_180 0 102 (dk_at dksX6_raced_1 8 rfl rfl)
theorem dX6_raced_33 : decode cX6_raced 33 = .ok (.iload_n 1, 1) := dk_27 (dk_at dksX6_raced_1 11 rfl rfl)
theorem dX6_raced_34 : decode cX6_raced 34 = .ok (.aload_n 0, 1) := dk_42 (dk_at dksX6_raced_1 12 rfl rfl)
theorem dX6_raced_35 : decode cX6_raced 35 = .ok (.getfield 257, 3) := dk_180 1 1 (dk_at dksX6_raced_1 13 rfl rfl)
theorem dX6_raced_38 : decode cX6_raced 38 = .ok (.iastore, 1) := dk_79 (dk_at dksX6_raced_1 16 rfl rfl)
theorem dX6_raced_39 : decode cX6_raced 39 = .ok (.aload_n 0, 1) := dk_42 (dk_at dksX6_raced_1 17 rfl rfl)
theorem dX6_raced_40 : decode cX6_raced 40 = .ok (.getfield 105, 3) := dk_180 0 105 (dk_at dksX6_raced_1 18 rfl rfl)
theorem dX6_raced_43 : decode cX6_raced 43 = .ok (.iload_n 1, 1) := dk_27 (dk_at dksX6_raced_1 21 rfl rfl)
theorem dX6_raced_44 : decode cX6_raced 44 = .ok (.aload_n 0, 1) := dk_42 (dk_at dksX6_raced_1 22 rfl rfl)
theorem dX6_raced_45 : decode cX6_raced 45 = .ok (.getfield 254, 3) := dk_180 0 254 (dk_at dksX6_raced_2 0 rfl rfl)
theorem dX6_raced_48 : decode cX6_raced 48 = .ok (.iastore, 1) := dk_79 (dk_at dksX6_raced_2 3 rfl rfl)
theorem dX6_raced_49 : decode cX6_raced 49 = .ok (.aload_n 0, 1) := dk_42 (dk_at dksX6_raced_2 4 rfl rfl)
theorem dX6_raced_50 : decode cX6_raced 50 = .ok (.getfield 108, 3) := dk_180 0 108 (dk_at dksX6_raced_2 5 rfl rfl)
theorem dX6_raced_53 : decode cX6_raced 53 = .ok (.iload_n 1, 1) := dk_27 (dk_at dksX6_raced_2 8 rfl rfl)
theorem dX6_raced_54 : decode cX6_raced 54 = .ok (.iconst 0, 1) := dk_3 (dk_at dksX6_raced_2 9 rfl rfl)
theorem dX6_raced_55 : decode cX6_raced 55 = .ok (.iastore, 1) := dk_79 (dk_at dksX6_raced_2 10 rfl rfl)
theorem dX6_raced_56 : decode cX6_raced 56 = .ok (.aload_n 0, 1) := dk_42 (dk_at dksX6_raced_2 11 rfl rfl)
theorem dX6_raced_57 : decode cX6_raced 57 = .ok (.getfield 111, 3) := dk_180 0 111 (dk_at dksX6_raced_2 12 rfl rfl)
theorem dX6_raced_60 : decode cX6_raced 60 = .ok (.iload_n 1, 1) := dk_27 (dk_at dksX6_raced_2 15 rfl rfl)
theorem dX6_raced_61 : decode cX6_raced 61 = .ok (.aload_n 0, 1) := dk_42 (dk_at dksX6_raced_2 16 rfl rfl)
theorem dX6_raced_62 : decode cX6_raced 62 = .ok (.getfield 257, 3) := dk_180 1 1 (dk_at dksX6_raced_2 17 rfl rfl)
theorem dX6_raced_65 : decode cX6_raced 65 = .ok (.aload_n 0, 1) := dk_42 (dk_at dksX6_raced_2 20 rfl rfl)
theorem dX6_raced_66 : decode cX6_raced 66 = .ok (.getfield 7, 3) := dk_180 0 7 (dk_at dksX6_raced_2 21 rfl rfl)
theorem dX6_raced_69 : decode cX6_raced 69 = .ok (.if_icmp .ge 9, 3) := dk_162 0 9 (dk_at dksX6_raced_3 0 rfl rfl)
theorem dX6_raced_72 : decode cX6_raced 72 = .ok (.sipush 999, 3) := dk_17 3 231 (dk_at dksX6_raced_3 3 rfl rfl)
theorem dX6_raced_75 : decode cX6_raced 75 = .ok (.goto 8, 3) := dk_167 0 8 (dk_at dksX6_raced_3 6 rfl rfl)
theorem dX6_raced_78 : decode cX6_raced 78 = .ok (.aload_n 0, 1) := dk_42 (dk_at dksX6_raced_3 9 rfl rfl)
theorem dX6_raced_79 : decode cX6_raced 79 = .ok (.iconst 0, 1) := dk_3 (dk_at dksX6_raced_3 10 rfl rfl)
theorem dX6_raced_80 : decode cX6_raced 80 = .ok (.invokevirtual 287, 3) := dk_182 1 31 (dk_at dksX6_raced_3 11 rfl rfl)
theorem dX6_raced_83 : decode cX6_raced 83 = .ok (.iastore, 1) := dk_79 (dk_at dksX6_raced_3 14 rfl rfl)
theorem dX6_raced_84 : decode cX6_raced 84 = .ok (.iinc 1 1, 3) := dk_132 1 1 (dk_at dksX6_raced_3 15 rfl rfl)
theorem dX6_raced_87 : decode cX6_raced 87 = .ok (.goto (-75), 3) := dk_167 255 181 (dk_at dksX6_raced_3 18 rfl rfl)
theorem dX6_raced_90 : decode cX6_raced 90 = .ok (.iconst 1, 1) := dk_4 (dk_at dksX6_raced_3 21 rfl rfl)
theorem dX6_raced_91 : decode cX6_raced 91 = .ok (.istore_n 1, 1) := dk_60 (dk_at dksX6_raced_3 22 rfl rfl)
theorem dX6_raced_92 : decode cX6_raced 92 = .ok (.iload_n 1, 1) := dk_27 (dk_at dksX6_raced_3 23 rfl rfl)
theorem dX6_raced_93 : decode cX6_raced 93 = .ok (.sipush 999, 3) := dk_17 3 231 (dk_at dksX6_raced_4 0 rfl rfl)
theorem dX6_raced_96 : decode cX6_raced 96 = .ok (.if_icmp .gt 132, 3) := dk_163 0 132 (dk_at dksX6_raced_4 3 rfl rfl)
theorem dX6_raced_99 : decode cX6_raced 99 = .ok (.iconst 0, 1) := dk_3 (dk_at dksX6_raced_4 6 rfl rfl)
theorem dX6_raced_100 : decode cX6_raced 100 = .ok (.istore_n 2, 1) := dk_61 (dk_at dksX6_raced_4 7 rfl rfl)
theorem dX6_raced_101 : decode cX6_raced 101 = .ok (.iload_n 2, 1) := dk_28 (dk_at dksX6_raced_4 8 rfl rfl)
theorem dX6_raced_102 : decode cX6_raced 102 = .ok (.aload_n 0, 1) := dk_42 (dk_at dksX6_raced_4 9 rfl rfl)
theorem dX6_raced_103 : decode cX6_raced 103 = .ok (.getfield 117, 3) := dk_180 0 117 (dk_at dksX6_raced_4 10 rfl rfl)
theorem dX6_raced_106 : decode cX6_raced 106 = .ok (.if_icmp .ge 116, 3) := dk_162 0 116 (dk_at dksX6_raced_4 13 rfl rfl)
theorem dX6_raced_109 : decode cX6_raced 109 = .ok (.aload_n 0, 1) := dk_42 (dk_at dksX6_raced_4 16 rfl rfl)
theorem dX6_raced_110 : decode cX6_raced 110 = .ok (.getfield 102, 3) := dk_180 0 102 (dk_at dksX6_raced_4 17 rfl rfl)
theorem dX6_raced_113 : decode cX6_raced 113 = .ok (.iload_n 2, 1) := dk_28 (dk_at dksX6_raced_4 20 rfl rfl)
theorem dX6_raced_114 : decode cX6_raced 114 = .ok (.iaload, 1) := dk_46 (dk_at dksX6_raced_4 21 rfl rfl)
theorem dX6_raced_115 : decode cX6_raced 115 = .ok (.aload_n 0, 1) := dk_42 (dk_at dksX6_raced_4 22 rfl rfl)
theorem dX6_raced_116 : decode cX6_raced 116 = .ok (.getfield 7, 3) := dk_180 0 7 (dk_at dksX6_raced_5 0 rfl rfl)
theorem dX6_raced_119 : decode cX6_raced 119 = .ok (.if_icmp .lt 6, 3) := dk_161 0 6 (dk_at dksX6_raced_5 3 rfl rfl)
theorem dX6_raced_122 : decode cX6_raced 122 = .ok (.goto 94, 3) := dk_167 0 94 (dk_at dksX6_raced_5 6 rfl rfl)
theorem dX6_raced_125 : decode cX6_raced 125 = .ok (.aload_n 0, 1) := dk_42 (dk_at dksX6_raced_5 9 rfl rfl)
theorem dX6_raced_126 : decode cX6_raced 126 = .ok (.iload_n 2, 1) := dk_28 (dk_at dksX6_raced_5 10 rfl rfl)
theorem dX6_raced_127 : decode cX6_raced 127 = .ok (.invokevirtual 134, 3) := dk_182 0 134 (dk_at dksX6_raced_5 11 rfl rfl)
theorem dX6_raced_130 : decode cX6_raced 130 = .ok (.aload_n 0, 1) := dk_42 (dk_at dksX6_raced_5 14 rfl rfl)
theorem dX6_raced_131 : decode cX6_raced 131 = .ok (.aload_n 0, 1) := dk_42 (dk_at dksX6_raced_5 15 rfl rfl)
theorem dX6_raced_132 : decode cX6_raced 132 = .ok (.getfield 102, 3) := dk_180 0 102 (dk_at dksX6_raced_5 16 rfl rfl)
theorem dX6_raced_135 : decode cX6_raced 135 = .ok (.iload_n 2, 1) := dk_28 (dk_at dksX6_raced_5 19 rfl rfl)
theorem dX6_raced_136 : decode cX6_raced 136 = .ok (.iaload, 1) := dk_46 (dk_at dksX6_raced_5 20 rfl rfl)
theorem dX6_raced_137 : decode cX6_raced 137 = .ok (.putfield 257, 3) := dk_181 1 1 (dk_at dksX6_raced_5 21 rfl rfl)
theorem dX6_raced_140 : decode cX6_raced 140 = .ok (.aload_n 0, 1) := dk_42 (dk_at dksX6_raced_6 0 rfl rfl)
theorem dX6_raced_141 : decode cX6_raced 141 = .ok (.aload_n 0, 1) := dk_42 (dk_at dksX6_raced_6 1 rfl rfl)
theorem dX6_raced_142 : decode cX6_raced 142 = .ok (.getfield 105, 3) := dk_180 0 105 (dk_at dksX6_raced_6 2 rfl rfl)
theorem dX6_raced_145 : decode cX6_raced 145 = .ok (.iload_n 2, 1) := dk_28 (dk_at dksX6_raced_6 5 rfl rfl)
theorem dX6_raced_146 : decode cX6_raced 146 = .ok (.iaload, 1) := dk_46 (dk_at dksX6_raced_6 6 rfl rfl)
theorem dX6_raced_147 : decode cX6_raced 147 = .ok (.putfield 254, 3) := dk_181 0 254 (dk_at dksX6_raced_6 7 rfl rfl)
theorem dX6_raced_150 : decode cX6_raced 150 = .ok (.aload_n 0, 1) := dk_42 (dk_at dksX6_raced_6 10 rfl rfl)
theorem dX6_raced_151 : decode cX6_raced 151 = .ok (.aload_n 0, 1) := dk_42 (dk_at dksX6_raced_6 11 rfl rfl)
theorem dX6_raced_152 : decode cX6_raced 152 = .ok (.getfield 108, 3) := dk_180 0 108 (dk_at dksX6_raced_6 12 rfl rfl)
theorem dX6_raced_155 : decode cX6_raced 155 = .ok (.iload_n 2, 1) := dk_28 (dk_at dksX6_raced_6 15 rfl rfl)
theorem dX6_raced_156 : decode cX6_raced 156 = .ok (.iaload, 1) := dk_46 (dk_at dksX6_raced_6 16 rfl rfl)
theorem dX6_raced_157 : decode cX6_raced 157 = .ok (.putfield 263, 3) := dk_181 1 7 (dk_at dksX6_raced_6 17 rfl rfl)
theorem dX6_raced_160 : decode cX6_raced 160 = .ok (.aload_n 0, 1) := dk_42 (dk_at dksX6_raced_6 20 rfl rfl)
theorem dX6_raced_161 : decode cX6_raced 161 = .ok (.invokevirtual 340, 3) := dk_182 1 84 (dk_at dksX6_raced_6 21 rfl rfl)
theorem dX6_raced_164 : decode cX6_raced 164 = .ok (.aload_n 0, 1) := dk_42 (dk_at dksX6_raced_7 0 rfl rfl)
theorem dX6_raced_165 : decode cX6_raced 165 = .ok (.getfield 102, 3) := dk_180 0 102 (dk_at dksX6_raced_7 1 rfl rfl)
theorem dX6_raced_168 : decode cX6_raced 168 = .ok (.iload_n 2, 1) := dk_28 (dk_at dksX6_raced_7 4 rfl rfl)
theorem dX6_raced_169 : decode cX6_raced 169 = .ok (.aload_n 0, 1) := dk_42 (dk_at dksX6_raced_7 5 rfl rfl)
theorem dX6_raced_170 : decode cX6_raced 170 = .ok (.getfield 257, 3) := dk_180 1 1 (dk_at dksX6_raced_7 6 rfl rfl)
theorem dX6_raced_173 : decode cX6_raced 173 = .ok (.iastore, 1) := dk_79 (dk_at dksX6_raced_7 9 rfl rfl)
theorem dX6_raced_174 : decode cX6_raced 174 = .ok (.aload_n 0, 1) := dk_42 (dk_at dksX6_raced_7 10 rfl rfl)
theorem dX6_raced_175 : decode cX6_raced 175 = .ok (.getfield 105, 3) := dk_180 0 105 (dk_at dksX6_raced_7 11 rfl rfl)
theorem dX6_raced_178 : decode cX6_raced 178 = .ok (.iload_n 2, 1) := dk_28 (dk_at dksX6_raced_7 14 rfl rfl)
theorem dX6_raced_179 : decode cX6_raced 179 = .ok (.aload_n 0, 1) := dk_42 (dk_at dksX6_raced_7 15 rfl rfl)
theorem dX6_raced_180 : decode cX6_raced 180 = .ok (.getfield 254, 3) := dk_180 0 254 (dk_at dksX6_raced_7 16 rfl rfl)
theorem dX6_raced_183 : decode cX6_raced 183 = .ok (.iastore, 1) := dk_79 (dk_at dksX6_raced_7 19 rfl rfl)
theorem dX6_raced_184 : decode cX6_raced 184 = .ok (.aload_n 0, 1) := dk_42 (dk_at dksX6_raced_7 20 rfl rfl)
theorem dX6_raced_185 : decode cX6_raced 185 = .ok (.getfield 108, 3) := dk_180 0 108 (dk_at dksX6_raced_7 21 rfl rfl)
theorem dX6_raced_188 : decode cX6_raced 188 = .ok (.iload_n 2, 1) := dk_28 (dk_at dksX6_raced_8 0 rfl rfl)
theorem dX6_raced_189 : decode cX6_raced 189 = .ok (.aload_n 0, 1) := dk_42 (dk_at dksX6_raced_8 1 rfl rfl)
theorem dX6_raced_190 : decode cX6_raced 190 = .ok (.getfield 263, 3) := dk_180 1 7 (dk_at dksX6_raced_8 2 rfl rfl)
theorem dX6_raced_193 : decode cX6_raced 193 = .ok (.iastore, 1) := dk_79 (dk_at dksX6_raced_8 5 rfl rfl)
theorem dX6_raced_194 : decode cX6_raced 194 = .ok (.aload_n 0, 1) := dk_42 (dk_at dksX6_raced_8 6 rfl rfl)
theorem dX6_raced_195 : decode cX6_raced 195 = .ok (.getfield 257, 3) := dk_180 1 1 (dk_at dksX6_raced_8 7 rfl rfl)
theorem dX6_raced_198 : decode cX6_raced 198 = .ok (.aload_n 0, 1) := dk_42 (dk_at dksX6_raced_8 10 rfl rfl)
theorem dX6_raced_199 : decode cX6_raced 199 = .ok (.getfield 7, 3) := dk_180 0 7 (dk_at dksX6_raced_8 11 rfl rfl)
theorem dX6_raced_202 : decode cX6_raced 202 = .ok (.if_icmp .lt 14, 3) := dk_161 0 14 (dk_at dksX6_raced_8 14 rfl rfl)
theorem dX6_raced_205 : decode cX6_raced 205 = .ok (.aload_n 0, 1) := dk_42 (dk_at dksX6_raced_8 17 rfl rfl)
theorem dX6_raced_206 : decode cX6_raced 206 = .ok (.getfield 111, 3) := dk_180 0 111 (dk_at dksX6_raced_8 18 rfl rfl)
theorem dX6_raced_209 : decode cX6_raced 209 = .ok (.iload_n 2, 1) := dk_28 (dk_at dksX6_raced_8 21 rfl rfl)
theorem dX6_raced_210 : decode cX6_raced 210 = .ok (.aload_n 0, 1) := dk_42 (dk_at dksX6_raced_8 22 rfl rfl)
theorem dX6_raced_211 : decode cX6_raced 211 = .ok (.iload_n 1, 1) := dk_27 (dk_at dksX6_raced_8 23 rfl rfl)
theorem dX6_raced_212 : decode cX6_raced 212 = .ok (.invokevirtual 287, 3) := dk_182 1 31 (dk_at dksX6_raced_9 0 rfl rfl)
theorem dX6_raced_215 : decode cX6_raced 215 = .ok (.iastore, 1) := dk_79 (dk_at dksX6_raced_9 3 rfl rfl)
theorem dX6_raced_216 : decode cX6_raced 216 = .ok (.iinc 2 1, 3) := dk_132 2 1 (dk_at dksX6_raced_9 4 rfl rfl)
theorem dX6_raced_219 : decode cX6_raced 219 = .ok (.goto (-118), 3) := dk_167 255 138 (dk_at dksX6_raced_9 7 rfl rfl)
theorem dX6_raced_222 : decode cX6_raced 222 = .ok (.iinc 1 1, 3) := dk_132 1 1 (dk_at dksX6_raced_9 10 rfl rfl)
theorem dX6_raced_225 : decode cX6_raced 225 = .ok (.goto (-133), 3) := dk_167 255 123 (dk_at dksX6_raced_9 13 rfl rfl)
theorem dX6_raced_228 : decode cX6_raced 228 = .ok (.iconst (-1), 1) := dk_2 (dk_at dksX6_raced_9 16 rfl rfl)
theorem dX6_raced_229 : decode cX6_raced 229 = .ok (.istore_n 1, 1) := dk_60 (dk_at dksX6_raced_9 17 rfl rfl)
theorem dX6_raced_230 : decode cX6_raced 230 = .ok (.iconst 0, 1) := dk_3 (dk_at dksX6_raced_9 18 rfl rfl)
theorem dX6_raced_231 : decode cX6_raced 231 = .ok (.istore_n 2, 1) := dk_61 (dk_at dksX6_raced_9 19 rfl rfl)
theorem dX6_raced_232 : decode cX6_raced 232 = .ok (.iload_n 2, 1) := dk_28 (dk_at dksX6_raced_9 20 rfl rfl)
theorem dX6_raced_233 : decode cX6_raced 233 = .ok (.aload_n 0, 1) := dk_42 (dk_at dksX6_raced_9 21 rfl rfl)
theorem dX6_raced_234 : decode cX6_raced 234 = .ok (.getfield 117, 3) := dk_180 0 117 (dk_at dksX6_raced_10 0 rfl rfl)
theorem dX6_raced_237 : decode cX6_raced 237 = .ok (.if_icmp .ge 43, 3) := dk_162 0 43 (dk_at dksX6_raced_10 3 rfl rfl)
theorem dX6_raced_240 : decode cX6_raced 240 = .ok (.aload_n 0, 1) := dk_42 (dk_at dksX6_raced_10 6 rfl rfl)
theorem dX6_raced_241 : decode cX6_raced 241 = .ok (.getfield 111, 3) := dk_180 0 111 (dk_at dksX6_raced_10 7 rfl rfl)
theorem dX6_raced_244 : decode cX6_raced 244 = .ok (.iload_n 2, 1) := dk_28 (dk_at dksX6_raced_10 10 rfl rfl)
theorem dX6_raced_245 : decode cX6_raced 245 = .ok (.iaload, 1) := dk_46 (dk_at dksX6_raced_10 11 rfl rfl)
theorem dX6_raced_246 : decode cX6_raced 246 = .ok (.sipush 999, 3) := dk_17 3 231 (dk_at dksX6_raced_10 12 rfl rfl)
theorem dX6_raced_249 : decode cX6_raced 249 = .ok (.if_icmp .ge 25, 3) := dk_162 0 25 (dk_at dksX6_raced_10 15 rfl rfl)
theorem dX6_raced_252 : decode cX6_raced 252 = .ok (.iload_n 1, 1) := dk_27 (dk_at dksX6_raced_10 18 rfl rfl)
theorem dX6_raced_253 : decode cX6_raced 253 = .ok (.iconst (-1), 1) := dk_2 (dk_at dksX6_raced_10 19 rfl rfl)
theorem dX6_raced_254 : decode cX6_raced 254 = .ok (.if_icmp .eq 18, 3) := dk_159 0 18 (dk_at dksX6_raced_10 20 rfl rfl)
theorem dX6_raced_257 : decode cX6_raced 257 = .ok (.aload_n 0, 1) := dk_42 (dk_at dksX6_raced_10 23 rfl rfl)
theorem dX6_raced_258 : decode cX6_raced 258 = .ok (.getfield 111, 3) := dk_180 0 111 (dk_at dksX6_raced_11 0 rfl rfl)
theorem dX6_raced_261 : decode cX6_raced 261 = .ok (.iload_n 2, 1) := dk_28 (dk_at dksX6_raced_11 3 rfl rfl)
theorem dX6_raced_262 : decode cX6_raced 262 = .ok (.iaload, 1) := dk_46 (dk_at dksX6_raced_11 4 rfl rfl)
theorem dX6_raced_263 : decode cX6_raced 263 = .ok (.aload_n 0, 1) := dk_42 (dk_at dksX6_raced_11 5 rfl rfl)
theorem dX6_raced_264 : decode cX6_raced 264 = .ok (.getfield 111, 3) := dk_180 0 111 (dk_at dksX6_raced_11 6 rfl rfl)
theorem dX6_raced_267 : decode cX6_raced 267 = .ok (.iload_n 1, 1) := dk_27 (dk_at dksX6_raced_11 9 rfl rfl)
theorem dX6_raced_268 : decode cX6_raced 268 = .ok (.iaload, 1) := dk_46 (dk_at dksX6_raced_11 10 rfl rfl)
theorem dX6_raced_269 : decode cX6_raced 269 = .ok (.if_icmp .ge 5, 3) := dk_162 0 5 (dk_at dksX6_raced_11 11 rfl rfl)
theorem dX6_raced_272 : decode cX6_raced 272 = .ok (.iload_n 2, 1) := dk_28 (dk_at dksX6_raced_11 14 rfl rfl)
theorem dX6_raced_273 : decode cX6_raced 273 = .ok (.istore_n 1, 1) := dk_60 (dk_at dksX6_raced_11 15 rfl rfl)
theorem dX6_raced_274 : decode cX6_raced 274 = .ok (.iinc 2 1, 3) := dk_132 2 1 (dk_at dksX6_raced_11 16 rfl rfl)
theorem dX6_raced_277 : decode cX6_raced 277 = .ok (.goto (-45), 3) := dk_167 255 211 (dk_at dksX6_raced_11 19 rfl rfl)
theorem dX6_raced_280 : decode cX6_raced 280 = .ok (.iload_n 1, 1) := dk_27 (dk_at dksX6_raced_11 22 rfl rfl)
theorem dX6_raced_281 : decode cX6_raced 281 = .ok (.iconst (-1), 1) := dk_2 (dk_at dksX6_raced_11 23 rfl rfl)
theorem dX6_raced_282 : decode cX6_raced 282 = .ok (.if_icmp .eq 13, 3) := dk_159 0 13 (dk_at dksX6_raced_12 0 rfl rfl)
theorem dX6_raced_285 : decode cX6_raced 285 = .ok (.aload_n 0, 1) := dk_42 (dk_at dksX6_raced_12 3 rfl rfl)
theorem dX6_raced_286 : decode cX6_raced 286 = .ok (.getfield 47, 3) := dk_180 0 47 (dk_at dksX6_raced_12 4 rfl rfl)
theorem dX6_raced_289 : decode cX6_raced 289 = .ok (.iload_n 1, 1) := dk_27 (dk_at dksX6_raced_12 7 rfl rfl)
theorem dX6_raced_290 : decode cX6_raced 290 = .ok (.dup2, 1) := dk_92 (dk_at dksX6_raced_12 8 rfl rfl)
theorem dX6_raced_291 : decode cX6_raced 291 = .ok (.iaload, 1) := dk_46 (dk_at dksX6_raced_12 9 rfl rfl)
theorem dX6_raced_292 : decode cX6_raced 292 = .ok (.iconst 1, 1) := dk_4 (dk_at dksX6_raced_12 10 rfl rfl)
theorem dX6_raced_293 : decode cX6_raced 293 = .ok (.iadd, 1) := dk_96 (dk_at dksX6_raced_12 11 rfl rfl)
theorem dX6_raced_294 : decode cX6_raced 294 = .ok (.iastore, 1) := dk_79 (dk_at dksX6_raced_12 12 rfl rfl)
theorem dX6_raced_295 : decode cX6_raced 295 = .ok (.iload_n 1, 1) := dk_27 (dk_at dksX6_raced_12 13 rfl rfl)
theorem dX6_raced_296 : decode cX6_raced 296 = .ok (.ireturn, 1) := dk_172 (dk_at dksX6_raced_12 14 rfl rfl)
abbrev cX6_secondInTruth : ByteArray := prog_23_method_82_code
def yX6_secondInTruth : MethodName := ⟨RX6, "secondInTruth", "()V"⟩
def dkwX6_secondInTruth_2 : List UInt8 := [42, 89, 180, 1, 1, 42, 182, 0, 142, 96, 181, 1, 1, 177]
abbrev dktX6_secondInTruth_2 : List UInt8 := dkwX6_secondInTruth_2 ++ []
def dkwX6_secondInTruth_1 : List UInt8 := [162, 0, 7, 4, 167, 0, 4, 3, 60, 42, 182, 1, 19, 27, 153, 0, 10, 42, 182, 1, 22, 167, 0, 16]
abbrev dktX6_secondInTruth_1 : List UInt8 := dkwX6_secondInTruth_1 ++ dktX6_secondInTruth_2
def dkwX6_secondInTruth_0 : List UInt8 := [42, 180, 1, 7, 158, 0, 8, 42, 182, 1, 13, 177, 42, 16, 100, 182, 1, 81, 42, 182, 1, 16]
abbrev dktX6_secondInTruth_0 : List UInt8 := dkwX6_secondInTruth_0 ++ dktX6_secondInTruth_1
theorem dksX6_secondInTruth_0 : cX6_secondInTruth.data.toList.drop 0 = dktX6_secondInTruth_0 := by decide +kernel
theorem dksX6_secondInTruth_1 : cX6_secondInTruth.data.toList.drop 22 = dktX6_secondInTruth_1 := dk_seg dksX6_secondInTruth_0 22 rfl rfl
theorem dksX6_secondInTruth_2 : cX6_secondInTruth.data.toList.drop 46 = dktX6_secondInTruth_2 := dk_seg dksX6_secondInTruth_1 24 rfl rfl
theorem dX6_secondInTruth_0 : decode cX6_secondInTruth 0 = .ok (.aload_n 0, 1) := dk_42 (dk_at dksX6_secondInTruth_0 0 rfl rfl)
theorem dX6_secondInTruth_1 : decode cX6_secondInTruth 1 = .ok (.getfield 263, 3) := dk_180 1 7 (dk_at dksX6_secondInTruth_0 1 rfl rfl)
theorem dX6_secondInTruth_4 : decode cX6_secondInTruth 4 = .ok (.ifCond .le 8, 3) := dk_158 0 8 (dk_at dksX6_secondInTruth_0 4 rfl rfl)
theorem dX6_secondInTruth_7 : decode cX6_secondInTruth 7 = .ok (.aload_n 0, 1) := dk_42 (dk_at dksX6_secondInTruth_0 7 rfl rfl)
theorem dX6_secondInTruth_8 : decode cX6_secondInTruth 8 = .ok (.invokevirtual 269, 3) := dk_182 1 13 (dk_at dksX6_secondInTruth_0 8 rfl rfl)
theorem dX6_secondInTruth_11 : decode cX6_secondInTruth 11 = .ok (.return_, 1) := dk_177 (dk_at dksX6_secondInTruth_0 11 rfl rfl)
theorem dX6_secondInTruth_12 : decode cX6_secondInTruth 12 = .ok (.aload_n 0, 1) := dk_42 (dk_at dksX6_secondInTruth_0 12 rfl rfl)
theorem dX6_secondInTruth_13 : decode cX6_secondInTruth 13 = .ok (.bipush 100, 2) := dk_16 100 (dk_at dksX6_secondInTruth_0 13 rfl rfl)
theorem dX6_secondInTruth_15 : decode cX6_secondInTruth 15 = .ok (.invokevirtual 337, 3) := dk_182 1 81 (dk_at dksX6_secondInTruth_0 15 rfl rfl)
theorem dX6_secondInTruth_18 : decode cX6_secondInTruth 18 = .ok (.aload_n 0, 1) := dk_42 (dk_at dksX6_secondInTruth_0 18 rfl rfl)
theorem dX6_secondInTruth_19 : decode cX6_secondInTruth 19 = .ok (.invokevirtual 272, 3) := dk_182 1 16 (dk_at dksX6_secondInTruth_0 19 rfl rfl)
theorem dX6_secondInTruth_22 : decode cX6_secondInTruth 22 = .ok (.if_icmp .ge 7, 3) := dk_162 0 7 (dk_at dksX6_secondInTruth_1 0 rfl rfl)
theorem dX6_secondInTruth_25 : decode cX6_secondInTruth 25 = .ok (.iconst 1, 1) := dk_4 (dk_at dksX6_secondInTruth_1 3 rfl rfl)
theorem dX6_secondInTruth_26 : decode cX6_secondInTruth 26 = .ok (.goto 4, 3) := dk_167 0 4 (dk_at dksX6_secondInTruth_1 4 rfl rfl)
theorem dX6_secondInTruth_29 : decode cX6_secondInTruth 29 = .ok (.iconst 0, 1) := dk_3 (dk_at dksX6_secondInTruth_1 7 rfl rfl)
theorem dX6_secondInTruth_30 : decode cX6_secondInTruth 30 = .ok (.istore_n 1, 1) := dk_60 (dk_at dksX6_secondInTruth_1 8 rfl rfl)
theorem dX6_secondInTruth_31 : decode cX6_secondInTruth 31 = .ok (.aload_n 0, 1) := dk_42 (dk_at dksX6_secondInTruth_1 9 rfl rfl)
theorem dX6_secondInTruth_32 : decode cX6_secondInTruth 32 = .ok (.invokevirtual 275, 3) := dk_182 1 19 (dk_at dksX6_secondInTruth_1 10 rfl rfl)
theorem dX6_secondInTruth_35 : decode cX6_secondInTruth 35 = .ok (.iload_n 1, 1) := dk_27 (dk_at dksX6_secondInTruth_1 13 rfl rfl)
theorem dX6_secondInTruth_36 : decode cX6_secondInTruth 36 = .ok (.ifCond .eq 10, 3) := dk_153 0 10 (dk_at dksX6_secondInTruth_1 14 rfl rfl)
theorem dX6_secondInTruth_39 : decode cX6_secondInTruth 39 = .ok (.aload_n 0, 1) := dk_42 (dk_at dksX6_secondInTruth_1 17 rfl rfl)
theorem dX6_secondInTruth_40 : decode cX6_secondInTruth 40 = .ok (.invokevirtual 278, 3) := dk_182 1 22 (dk_at dksX6_secondInTruth_1 18 rfl rfl)
theorem dX6_secondInTruth_43 : decode cX6_secondInTruth 43 = .ok (.goto 16, 3) := dk_167 0 16 (dk_at dksX6_secondInTruth_1 21 rfl rfl)
theorem dX6_secondInTruth_46 : decode cX6_secondInTruth 46 = .ok (.aload_n 0, 1) := dk_42 (dk_at dksX6_secondInTruth_2 0 rfl rfl)
theorem dX6_secondInTruth_47 : decode cX6_secondInTruth 47 = .ok (.dup, 1) := dk_89 (dk_at dksX6_secondInTruth_2 1 rfl rfl)
theorem dX6_secondInTruth_48 : decode cX6_secondInTruth 48 = .ok (.getfield 257, 3) := dk_180 1 1 (dk_at dksX6_secondInTruth_2 2 rfl rfl)
theorem dX6_secondInTruth_51 : decode cX6_secondInTruth 51 = .ok (.aload_n 0, 1) := dk_42 (dk_at dksX6_secondInTruth_2 5 rfl rfl)
theorem dX6_secondInTruth_52 : decode cX6_secondInTruth 52 = .ok (.invokevirtual 142, 3) := dk_182 0 142 (dk_at dksX6_secondInTruth_2 6 rfl rfl)
theorem dX6_secondInTruth_55 : decode cX6_secondInTruth 55 = .ok (.iadd, 1) := dk_96 (dk_at dksX6_secondInTruth_2 9 rfl rfl)
theorem dX6_secondInTruth_56 : decode cX6_secondInTruth 56 = .ok (.putfield 257, 3) := dk_181 1 1 (dk_at dksX6_secondInTruth_2 10 rfl rfl)
theorem dX6_secondInTruth_59 : decode cX6_secondInTruth 59 = .ok (.return_, 1) := dk_177 (dk_at dksX6_secondInTruth_2 13 rfl rfl)
abbrev cX6_draw : ByteArray := prog_23_method_81_code
def yX6_draw : MethodName := ⟨RX6, "draw", "(I)I"⟩
def dkwX6_draw_1 : List UInt8 := [112, 172]
abbrev dktX6_draw_1 : List UInt8 := dkwX6_draw_1 ++ []
def dkwX6_draw_0 : List UInt8 := [42, 42, 180, 0, 22, 19, 1, 80, 104, 17, 48, 57, 96, 181, 0, 22, 42, 180, 0, 22, 16, 16, 124, 27]
abbrev dktX6_draw_0 : List UInt8 := dkwX6_draw_0 ++ dktX6_draw_1
theorem dksX6_draw_0 : cX6_draw.data.toList.drop 0 = dktX6_draw_0 := by decide +kernel
theorem dksX6_draw_1 : cX6_draw.data.toList.drop 24 = dktX6_draw_1 := dk_seg dksX6_draw_0 24 rfl rfl
theorem dX6_draw_0 : decode cX6_draw 0 = .ok (.aload_n 0, 1) := dk_42 (dk_at dksX6_draw_0 0 rfl rfl)
theorem dX6_draw_1 : decode cX6_draw 1 = .ok (.aload_n 0, 1) := dk_42 (dk_at dksX6_draw_0 1 rfl rfl)
theorem dX6_draw_2 : decode cX6_draw 2 = .ok (.getfield 22, 3) := dk_180 0 22 (dk_at dksX6_draw_0 2 rfl rfl)
theorem dX6_draw_5 : decode cX6_draw 5 = .ok (.ldc_w 336, 3) := dk_19 1 80 (dk_at dksX6_draw_0 5 rfl rfl)
theorem dX6_draw_8 : decode cX6_draw 8 = .ok (.imul, 1) := dk_104 (dk_at dksX6_draw_0 8 rfl rfl)
theorem dX6_draw_9 : decode cX6_draw 9 = .ok (.sipush 12345, 3) := dk_17 48 57 (dk_at dksX6_draw_0 9 rfl rfl)
theorem dX6_draw_12 : decode cX6_draw 12 = .ok (.iadd, 1) := dk_96 (dk_at dksX6_draw_0 12 rfl rfl)
theorem dX6_draw_13 : decode cX6_draw 13 = .ok (.putfield 22, 3) := dk_181 0 22 (dk_at dksX6_draw_0 13 rfl rfl)
theorem dX6_draw_16 : decode cX6_draw 16 = .ok (.aload_n 0, 1) := dk_42 (dk_at dksX6_draw_0 16 rfl rfl)
theorem dX6_draw_17 : decode cX6_draw 17 = .ok (.getfield 22, 3) := dk_180 0 22 (dk_at dksX6_draw_0 17 rfl rfl)
theorem dX6_draw_20 : decode cX6_draw 20 = .ok (.bipush 16, 2) := dk_16 16 (dk_at dksX6_draw_0 20 rfl rfl)
theorem dX6_draw_22 : decode cX6_draw 22 = .ok (.iushr, 1) := dk_124 (dk_at dksX6_draw_0 22 rfl rfl)
theorem dX6_draw_23 : decode cX6_draw 23 = .ok (.iload_n 1, 1) := dk_27 (dk_at dksX6_draw_0 23 rfl rfl)
theorem dX6_draw_24 : decode cX6_draw 24 = .ok (.irem, 1) := dk_112 (dk_at dksX6_draw_1 0 rfl rfl)
theorem dX6_draw_25 : decode cX6_draw 25 = .ok (.ireturn, 1) := dk_172 (dk_at dksX6_draw_1 1 rfl rfl)
abbrev cX6_summer : ByteArray := prog_23_method_85_code
def yX6_summer : MethodName := ⟨RX6, "summer", "(II)I"⟩
def dkwX6_summer_2 : List UInt8 := [182, 1, 87, 28, 160, 0, 6, 132, 3, 1, 132, 4, 1, 167, 255, 236, 29, 172]
abbrev dktX6_summer_2 : List UInt8 := dkwX6_summer_2 ++ []
def dkwX6_summer_1 : List UInt8 := [164, 0, 10, 42, 16, 250, 182, 0, 127, 172, 3, 62, 3, 54, 4, 21, 4, 27, 162, 0, 20, 42]
abbrev dktX6_summer_1 : List UInt8 := dkwX6_summer_1 ++ dktX6_summer_2
def dkwX6_summer_0 : List UInt8 := [42, 28, 182, 0, 131, 154, 0, 9, 42, 2, 182, 0, 127, 172, 27, 4, 161, 0, 9, 27, 16, 30]
abbrev dktX6_summer_0 : List UInt8 := dkwX6_summer_0 ++ dktX6_summer_1
theorem dksX6_summer_0 : cX6_summer.data.toList.drop 0 = dktX6_summer_0 := by decide +kernel
theorem dksX6_summer_1 : cX6_summer.data.toList.drop 22 = dktX6_summer_1 := dk_seg dksX6_summer_0 22 rfl rfl
theorem dksX6_summer_2 : cX6_summer.data.toList.drop 44 = dktX6_summer_2 := dk_seg dksX6_summer_1 22 rfl rfl
theorem dX6_summer_0 : decode cX6_summer 0 = .ok (.aload_n 0, 1) := dk_42 (dk_at dksX6_summer_0 0 rfl rfl)
theorem dX6_summer_1 : decode cX6_summer 1 = .ok (.iload_n 2, 1) := dk_28 (dk_at dksX6_summer_0 1 rfl rfl)
theorem dX6_summer_2 : decode cX6_summer 2 = .ok (.invokevirtual 131, 3) := dk_182 0 131 (dk_at dksX6_summer_0 2 rfl rfl)
theorem dX6_summer_5 : decode cX6_summer 5 = .ok (.ifCond .ne 9, 3) := dk_154 0 9 (dk_at dksX6_summer_0 5 rfl rfl)
theorem dX6_summer_8 : decode cX6_summer 8 = .ok (.aload_n 0, 1) := dk_42 (dk_at dksX6_summer_0 8 rfl rfl)
theorem dX6_summer_9 : decode cX6_summer 9 = .ok (.iconst (-1), 1) := dk_2 (dk_at dksX6_summer_0 9 rfl rfl)
theorem dX6_summer_10 : decode cX6_summer 10 = .ok (.invokevirtual 127, 3) := dk_182 0 127 (dk_at dksX6_summer_0 10 rfl rfl)
theorem dX6_summer_13 : decode cX6_summer 13 = .ok (.ireturn, 1) := dk_172 (dk_at dksX6_summer_0 13 rfl rfl)
theorem dX6_summer_14 : decode cX6_summer 14 = .ok (.iload_n 1, 1) := dk_27 (dk_at dksX6_summer_0 14 rfl rfl)
theorem dX6_summer_15 : decode cX6_summer 15 = .ok (.iconst 1, 1) := dk_4 (dk_at dksX6_summer_0 15 rfl rfl)
theorem dX6_summer_16 : decode cX6_summer 16 = .ok (.if_icmp .lt 9, 3) := dk_161 0 9 (dk_at dksX6_summer_0 16 rfl rfl)
theorem dX6_summer_19 : decode cX6_summer 19 = .ok (.iload_n 1, 1) := dk_27 (dk_at dksX6_summer_0 19 rfl rfl)
theorem dX6_summer_20 : decode cX6_summer 20 = .ok (.bipush 30, 2) := dk_16 30 (dk_at dksX6_summer_0 20 rfl rfl)
theorem dX6_summer_22 : decode cX6_summer 22 = .ok (.if_icmp .le 10, 3) := dk_164 0 10 (dk_at dksX6_summer_1 0 rfl rfl)
theorem dX6_summer_25 : decode cX6_summer 25 = .ok (.aload_n 0, 1) := dk_42 (dk_at dksX6_summer_1 3 rfl rfl)
theorem dX6_summer_26 : decode cX6_summer 26 = .ok (.bipush (-6), 2) := dk_16 250 (dk_at dksX6_summer_1 4 rfl rfl)
theorem dX6_summer_28 : decode cX6_summer 28 = .ok (.invokevirtual 127, 3) := dk_182 0 127 (dk_at dksX6_summer_1 6 rfl rfl)
theorem dX6_summer_31 : decode cX6_summer 31 = .ok (.ireturn, 1) := dk_172 (dk_at dksX6_summer_1 9 rfl rfl)
theorem dX6_summer_32 : decode cX6_summer 32 = .ok (.iconst 0, 1) := dk_3 (dk_at dksX6_summer_1 10 rfl rfl)
theorem dX6_summer_33 : decode cX6_summer 33 = .ok (.istore_n 3, 1) := dk_62 (dk_at dksX6_summer_1 11 rfl rfl)
theorem dX6_summer_34 : decode cX6_summer 34 = .ok (.iconst 0, 1) := dk_3 (dk_at dksX6_summer_1 12 rfl rfl)
theorem dX6_summer_35 : decode cX6_summer 35 = .ok (.istore 4, 2) := dk_54 4 (dk_at dksX6_summer_1 13 rfl rfl)
theorem dX6_summer_37 : decode cX6_summer 37 = .ok (.iload 4, 2) := dk_21 4 (dk_at dksX6_summer_1 15 rfl rfl)
theorem dX6_summer_39 : decode cX6_summer 39 = .ok (.iload_n 1, 1) := dk_27 (dk_at dksX6_summer_1 17 rfl rfl)
theorem dX6_summer_40 : decode cX6_summer 40 = .ok (.if_icmp .ge 20, 3) := dk_162 0 20 (dk_at dksX6_summer_1 18 rfl rfl)
theorem dX6_summer_43 : decode cX6_summer 43 = .ok (.aload_n 0, 1) := dk_42 (dk_at dksX6_summer_1 21 rfl rfl)
theorem dX6_summer_44 : decode cX6_summer 44 = .ok (.invokevirtual 343, 3) := dk_182 1 87 (dk_at dksX6_summer_2 0 rfl rfl)
theorem dX6_summer_47 : decode cX6_summer 47 = .ok (.iload_n 2, 1) := dk_28 (dk_at dksX6_summer_2 3 rfl rfl)
theorem dX6_summer_48 : decode cX6_summer 48 = .ok (.if_icmp .ne 6, 3) := dk_160 0 6 (dk_at dksX6_summer_2 4 rfl rfl)
theorem dX6_summer_51 : decode cX6_summer 51 = .ok (.iinc 3 1, 3) := dk_132 3 1 (dk_at dksX6_summer_2 7 rfl rfl)
theorem dX6_summer_54 : decode cX6_summer 54 = .ok (.iinc 4 1, 3) := dk_132 4 1 (dk_at dksX6_summer_2 10 rfl rfl)
theorem dX6_summer_57 : decode cX6_summer 57 = .ok (.goto (-20), 3) := dk_167 255 236 (dk_at dksX6_summer_2 13 rfl rfl)
theorem dX6_summer_60 : decode cX6_summer 60 = .ok (.iload_n 3, 1) := dk_29 (dk_at dksX6_summer_2 16 rfl rfl)
theorem dX6_summer_61 : decode cX6_summer 61 = .ok (.ireturn, 1) := dk_172 (dk_at dksX6_summer_2 17 rfl rfl)
abbrev cX6_seed : ByteArray := prog_23_method_86_code
def yX6_seed : MethodName := ⟨RX6, "seed", "(I)I"⟩
def dkwX6_seed_0 : List UInt8 := [42, 180, 0, 22, 61, 42, 27, 181, 0, 22, 28, 172]
abbrev dktX6_seed_0 : List UInt8 := dkwX6_seed_0 ++ []
theorem dksX6_seed_0 : cX6_seed.data.toList.drop 0 = dktX6_seed_0 := by decide +kernel
theorem dX6_seed_0 : decode cX6_seed 0 = .ok (.aload_n 0, 1) := dk_42 (dk_at dksX6_seed_0 0 rfl rfl)
theorem dX6_seed_1 : decode cX6_seed 1 = .ok (.getfield 22, 3) := dk_180 0 22 (dk_at dksX6_seed_0 1 rfl rfl)
theorem dX6_seed_4 : decode cX6_seed 4 = .ok (.istore_n 2, 1) := dk_61 (dk_at dksX6_seed_0 4 rfl rfl)
theorem dX6_seed_5 : decode cX6_seed 5 = .ok (.aload_n 0, 1) := dk_42 (dk_at dksX6_seed_0 5 rfl rfl)
theorem dX6_seed_6 : decode cX6_seed 6 = .ok (.iload_n 1, 1) := dk_27 (dk_at dksX6_seed_0 6 rfl rfl)
theorem dX6_seed_7 : decode cX6_seed 7 = .ok (.putfield 22, 3) := dk_181 0 22 (dk_at dksX6_seed_0 7 rfl rfl)
theorem dX6_seed_10 : decode cX6_seed 10 = .ok (.iload_n 2, 1) := dk_28 (dk_at dksX6_seed_0 10 rfl rfl)
theorem dX6_seed_11 : decode cX6_seed 11 = .ok (.ireturn, 1) := dk_172 (dk_at dksX6_seed_0 11 rfl rfl)
abbrev cX6_act : ByteArray := prog_23_method_91_code
def yX6_act : MethodName := ⟨RX6, "act", "(III)I"⟩
def dkwX6_act_2 : List UInt8 := [167, 0, 9, 42, 27, 29, 182, 1, 102, 172]
abbrev dktX6_act_2 : List UInt8 := dkwX6_act_2 ++ []
def dkwX6_act_1 : List UInt8 := [28, 154, 0, 12, 42, 27, 29, 182, 1, 96, 167, 0, 23, 28, 4, 160, 0, 12, 42, 27, 29, 182, 1, 99]
abbrev dktX6_act_1 : List UInt8 := dkwX6_act_1 ++ dktX6_act_2
def dkwX6_act_0 : List UInt8 := [42, 3, 181, 1, 90, 42, 27, 182, 0, 131, 153, 0, 12, 28, 155, 0, 8, 28, 5, 164, 0, 5, 3, 172]
abbrev dktX6_act_0 : List UInt8 := dkwX6_act_0 ++ dktX6_act_1
theorem dksX6_act_0 : cX6_act.data.toList.drop 0 = dktX6_act_0 := by decide +kernel
theorem dksX6_act_1 : cX6_act.data.toList.drop 24 = dktX6_act_1 := dk_seg dksX6_act_0 24 rfl rfl
theorem dksX6_act_2 : cX6_act.data.toList.drop 48 = dktX6_act_2 := dk_seg dksX6_act_1 24 rfl rfl
theorem dX6_act_0 : decode cX6_act 0 = .ok (.aload_n 0, 1) := dk_42 (dk_at dksX6_act_0 0 rfl rfl)
theorem dX6_act_1 : decode cX6_act 1 = .ok (.iconst 0, 1) := dk_3 (dk_at dksX6_act_0 1 rfl rfl)
theorem dX6_act_2 : decode cX6_act 2 = .ok (.putfield 346, 3) := dk_181 1 90 (dk_at dksX6_act_0 2 rfl rfl)
theorem dX6_act_5 : decode cX6_act 5 = .ok (.aload_n 0, 1) := dk_42 (dk_at dksX6_act_0 5 rfl rfl)
theorem dX6_act_6 : decode cX6_act 6 = .ok (.iload_n 1, 1) := dk_27 (dk_at dksX6_act_0 6 rfl rfl)
theorem dX6_act_7 : decode cX6_act 7 = .ok (.invokevirtual 131, 3) := dk_182 0 131 (dk_at dksX6_act_0 7 rfl rfl)
theorem dX6_act_10 : decode cX6_act 10 = .ok (.ifCond .eq 12, 3) := dk_153 0 12 (dk_at dksX6_act_0 10 rfl rfl)
theorem dX6_act_13 : decode cX6_act 13 = .ok (.iload_n 2, 1) := dk_28 (dk_at dksX6_act_0 13 rfl rfl)
theorem dX6_act_14 : decode cX6_act 14 = .ok (.ifCond .lt 8, 3) := dk_155 0 8 (dk_at dksX6_act_0 14 rfl rfl)
theorem dX6_act_17 : decode cX6_act 17 = .ok (.iload_n 2, 1) := dk_28 (dk_at dksX6_act_0 17 rfl rfl)
theorem dX6_act_18 : decode cX6_act 18 = .ok (.iconst 2, 1) := dk_5 (dk_at dksX6_act_0 18 rfl rfl)
theorem dX6_act_19 : decode cX6_act 19 = .ok (.if_icmp .le 5, 3) := dk_164 0 5 (dk_at dksX6_act_0 19 rfl rfl)
theorem dX6_act_22 : decode cX6_act 22 = .ok (.iconst 0, 1) := dk_3 (dk_at dksX6_act_0 22 rfl rfl)
theorem dX6_act_23 : decode cX6_act 23 = .ok (.ireturn, 1) := dk_172 (dk_at dksX6_act_0 23 rfl rfl)
theorem dX6_act_24 : decode cX6_act 24 = .ok (.iload_n 2, 1) := dk_28 (dk_at dksX6_act_1 0 rfl rfl)
theorem dX6_act_25 : decode cX6_act 25 = .ok (.ifCond .ne 12, 3) := dk_154 0 12 (dk_at dksX6_act_1 1 rfl rfl)
theorem dX6_act_28 : decode cX6_act 28 = .ok (.aload_n 0, 1) := dk_42 (dk_at dksX6_act_1 4 rfl rfl)
theorem dX6_act_29 : decode cX6_act 29 = .ok (.iload_n 1, 1) := dk_27 (dk_at dksX6_act_1 5 rfl rfl)
theorem dX6_act_30 : decode cX6_act 30 = .ok (.iload_n 3, 1) := dk_29 (dk_at dksX6_act_1 6 rfl rfl)
theorem dX6_act_31 : decode cX6_act 31 = .ok (.invokevirtual 352, 3) := dk_182 1 96 (dk_at dksX6_act_1 7 rfl rfl)
theorem dX6_act_34 : decode cX6_act 34 = .ok (.goto 23, 3) := dk_167 0 23 (dk_at dksX6_act_1 10 rfl rfl)
theorem dX6_act_37 : decode cX6_act 37 = .ok (.iload_n 2, 1) := dk_28 (dk_at dksX6_act_1 13 rfl rfl)
theorem dX6_act_38 : decode cX6_act 38 = .ok (.iconst 1, 1) := dk_4 (dk_at dksX6_act_1 14 rfl rfl)
theorem dX6_act_39 : decode cX6_act 39 = .ok (.if_icmp .ne 12, 3) := dk_160 0 12 (dk_at dksX6_act_1 15 rfl rfl)
theorem dX6_act_42 : decode cX6_act 42 = .ok (.aload_n 0, 1) := dk_42 (dk_at dksX6_act_1 18 rfl rfl)
theorem dX6_act_43 : decode cX6_act 43 = .ok (.iload_n 1, 1) := dk_27 (dk_at dksX6_act_1 19 rfl rfl)
theorem dX6_act_44 : decode cX6_act 44 = .ok (.iload_n 3, 1) := dk_29 (dk_at dksX6_act_1 20 rfl rfl)
theorem dX6_act_45 : decode cX6_act 45 = .ok (.invokevirtual 355, 3) := dk_182 1 99 (dk_at dksX6_act_1 21 rfl rfl)
theorem dX6_act_48 : decode cX6_act 48 = .ok (.goto 9, 3) := dk_167 0 9 (dk_at dksX6_act_2 0 rfl rfl)
theorem dX6_act_51 : decode cX6_act 51 = .ok (.aload_n 0, 1) := dk_42 (dk_at dksX6_act_2 3 rfl rfl)
theorem dX6_act_52 : decode cX6_act 52 = .ok (.iload_n 1, 1) := dk_27 (dk_at dksX6_act_2 4 rfl rfl)
theorem dX6_act_53 : decode cX6_act 53 = .ok (.iload_n 3, 1) := dk_29 (dk_at dksX6_act_2 5 rfl rfl)
theorem dX6_act_54 : decode cX6_act 54 = .ok (.invokevirtual 358, 3) := dk_182 1 102 (dk_at dksX6_act_2 6 rfl rfl)
theorem dX6_act_57 : decode cX6_act 57 = .ok (.ireturn, 1) := dk_172 (dk_at dksX6_act_2 9 rfl rfl)
abbrev cX6_hopping : ByteArray := prog_23_method_88_code
def yX6_hopping : MethodName := ⟨RX6, "hopping", "(II)I"⟩
def dkwX6_hopping_5 : List UInt8 := [172]
abbrev dktX6_hopping_5 : List UInt8 := dkwX6_hopping_5 ++ []
def dkwX6_hopping_4 : List UInt8 := [160, 0, 9, 21, 4, 27, 100, 54, 4, 29, 16, 6, 160, 0, 10, 21, 4, 5, 104, 167, 0, 5, 21, 4]
abbrev dktX6_hopping_4 : List UInt8 := dkwX6_hopping_4 ++ dktX6_hopping_5
def dkwX6_hopping_3 : List UInt8 := [160, 0, 14, 21, 4, 42, 180, 0, 35, 27, 46, 96, 54, 4, 29, 7, 159, 0, 9, 29, 16, 6]
abbrev dktX6_hopping_3 : List UInt8 := dkwX6_hopping_3 ++ dktX6_hopping_4
def dkwX6_hopping_2 : List UInt8 := [16, 20, 182, 1, 93, 42, 16, 10, 182, 1, 93, 28, 27, 96, 54, 4, 29, 4, 159, 0, 8, 29, 6]
abbrev dktX6_hopping_2 : List UInt8 := dkwX6_hopping_2 ++ dktX6_hopping_3
def dkwX6_hopping_1 : List UInt8 := [29, 16, 6, 160, 0, 9, 42, 16, 51, 182, 1, 93, 29, 4, 159, 0, 8, 29, 6, 160, 0, 9, 42]
abbrev dktX6_hopping_1 : List UInt8 := dkwX6_hopping_1 ++ dktX6_hopping_2
def dkwX6_hopping_0 : List UInt8 := [42, 180, 0, 32, 27, 46, 62, 29, 16, 6, 160, 0, 9, 42, 16, 70, 182, 1, 93, 29, 7, 159, 0, 9]
abbrev dktX6_hopping_0 : List UInt8 := dkwX6_hopping_0 ++ dktX6_hopping_1
theorem dksX6_hopping_0 : cX6_hopping.data.toList.drop 0 = dktX6_hopping_0 := by decide +kernel
theorem dksX6_hopping_1 : cX6_hopping.data.toList.drop 24 = dktX6_hopping_1 := dk_seg dksX6_hopping_0 24 rfl rfl
theorem dksX6_hopping_2 : cX6_hopping.data.toList.drop 47 = dktX6_hopping_2 := dk_seg dksX6_hopping_1 23 rfl rfl
theorem dksX6_hopping_3 : cX6_hopping.data.toList.drop 70 = dktX6_hopping_3 := dk_seg dksX6_hopping_2 23 rfl rfl
theorem dksX6_hopping_4 : cX6_hopping.data.toList.drop 92 = dktX6_hopping_4 := dk_seg dksX6_hopping_3 22 rfl rfl
theorem dksX6_hopping_5 : cX6_hopping.data.toList.drop 116 = dktX6_hopping_5 := dk_seg dksX6_hopping_4 24 rfl rfl
theorem dX6_hopping_0 : decode cX6_hopping 0 = .ok (.aload_n 0, 1) := dk_42 (dk_at dksX6_hopping_0 0 rfl rfl)
theorem dX6_hopping_1 : decode cX6_hopping 1 = .ok (.getfield 32, 3) := dk_180 0 32 (dk_at dksX6_hopping_0 1 rfl rfl)
theorem dX6_hopping_4 : decode cX6_hopping 4 = .ok (.iload_n 1, 1) := dk_27 (dk_at dksX6_hopping_0 4 rfl rfl)
theorem dX6_hopping_5 : decode cX6_hopping 5 = .ok (.iaload, 1) := dk_46 (dk_at dksX6_hopping_0 5 rfl rfl)
theorem dX6_hopping_6 : decode cX6_hopping 6 = .ok (.istore_n 3, 1) := dk_62 (dk_at dksX6_hopping_0 6 rfl rfl)
theorem dX6_hopping_7 : decode cX6_hopping 7 = .ok (.iload_n 3, 1) := dk_29 (dk_at dksX6_hopping_0 7 rfl rfl)
theorem dX6_hopping_8 : decode cX6_hopping 8 = .ok (.bipush 6, 2) := dk_16 6 (dk_at dksX6_hopping_0 8 rfl rfl)
theorem dX6_hopping_10 : decode cX6_hopping 10 = .ok (.if_icmp .ne 9, 3) := dk_160 0 9 (dk_at dksX6_hopping_0 10 rfl rfl)
theorem dX6_hopping_13 : decode cX6_hopping 13 = .ok (.aload_n 0, 1) := dk_42 (dk_at dksX6_hopping_0 13 rfl rfl)
theorem dX6_hopping_14 : decode cX6_hopping 14 = .ok (.bipush 70, 2) := dk_16 70 (dk_at dksX6_hopping_0 14 rfl rfl)
theorem dX6_hopping_16 : decode cX6_hopping 16 = .ok (.invokevirtual 349, 3) := dk_182 1 93 (dk_at dksX6_hopping_0 16 rfl rfl)
theorem dX6_hopping_19 : decode cX6_hopping 19 = .ok (.iload_n 3, 1) := dk_29 (dk_at dksX6_hopping_0 19 rfl rfl)
theorem dX6_hopping_20 : decode cX6_hopping 20 = .ok (.iconst 4, 1) := dk_7 (dk_at dksX6_hopping_0 20 rfl rfl)
theorem dX6_hopping_21 : decode cX6_hopping 21 = .ok (.if_icmp .eq 9, 3) := dk_159 0 9 (dk_at dksX6_hopping_0 21 rfl rfl)
theorem dX6_hopping_24 : decode cX6_hopping 24 = .ok (.iload_n 3, 1) := dk_29 (dk_at dksX6_hopping_1 0 rfl rfl)
theorem dX6_hopping_25 : decode cX6_hopping 25 = .ok (.bipush 6, 2) := dk_16 6 (dk_at dksX6_hopping_1 1 rfl rfl)
theorem dX6_hopping_27 : decode cX6_hopping 27 = .ok (.if_icmp .ne 9, 3) := dk_160 0 9 (dk_at dksX6_hopping_1 3 rfl rfl)
theorem dX6_hopping_30 : decode cX6_hopping 30 = .ok (.aload_n 0, 1) := dk_42 (dk_at dksX6_hopping_1 6 rfl rfl)
theorem dX6_hopping_31 : decode cX6_hopping 31 = .ok (.bipush 51, 2) := dk_16 51 (dk_at dksX6_hopping_1 7 rfl rfl)
theorem dX6_hopping_33 : decode cX6_hopping 33 = .ok (.invokevirtual 349, 3) := dk_182 1 93 (dk_at dksX6_hopping_1 9 rfl rfl)
theorem dX6_hopping_36 : decode cX6_hopping 36 = .ok (.iload_n 3, 1) := dk_29 (dk_at dksX6_hopping_1 12 rfl rfl)
theorem dX6_hopping_37 : decode cX6_hopping 37 = .ok (.iconst 1, 1) := dk_4 (dk_at dksX6_hopping_1 13 rfl rfl)
theorem dX6_hopping_38 : decode cX6_hopping 38 = .ok (.if_icmp .eq 8, 3) := dk_159 0 8 (dk_at dksX6_hopping_1 14 rfl rfl)
theorem dX6_hopping_41 : decode cX6_hopping 41 = .ok (.iload_n 3, 1) := dk_29 (dk_at dksX6_hopping_1 17 rfl rfl)
theorem dX6_hopping_42 : decode cX6_hopping 42 = .ok (.iconst 3, 1) := dk_6 (dk_at dksX6_hopping_1 18 rfl rfl)
theorem dX6_hopping_43 : decode cX6_hopping 43 = .ok (.if_icmp .ne 9, 3) := dk_160 0 9 (dk_at dksX6_hopping_1 19 rfl rfl)
theorem dX6_hopping_46 : decode cX6_hopping 46 = .ok (.aload_n 0, 1) := dk_42 (dk_at dksX6_hopping_1 22 rfl rfl)
theorem dX6_hopping_47 : decode cX6_hopping 47 = .ok (.bipush 20, 2) := dk_16 20 (dk_at dksX6_hopping_2 0 rfl rfl)
theorem dX6_hopping_49 : decode cX6_hopping 49 = .ok (.invokevirtual 349, 3) := dk_182 1 93 (dk_at dksX6_hopping_2 2 rfl rfl)
theorem dX6_hopping_52 : decode cX6_hopping 52 = .ok (.aload_n 0, 1) := dk_42 (dk_at dksX6_hopping_2 5 rfl rfl)
theorem dX6_hopping_53 : decode cX6_hopping 53 = .ok (.bipush 10, 2) := dk_16 10 (dk_at dksX6_hopping_2 6 rfl rfl)
theorem dX6_hopping_55 : decode cX6_hopping 55 = .ok (.invokevirtual 349, 3) := dk_182 1 93 (dk_at dksX6_hopping_2 8 rfl rfl)
theorem dX6_hopping_58 : decode cX6_hopping 58 = .ok (.iload_n 2, 1) := dk_28 (dk_at dksX6_hopping_2 11 rfl rfl)
theorem dX6_hopping_59 : decode cX6_hopping 59 = .ok (.iload_n 1, 1) := dk_27 (dk_at dksX6_hopping_2 12 rfl rfl)
theorem dX6_hopping_60 : decode cX6_hopping 60 = .ok (.iadd, 1) := dk_96 (dk_at dksX6_hopping_2 13 rfl rfl)
theorem dX6_hopping_61 : decode cX6_hopping 61 = .ok (.istore 4, 2) := dk_54 4 (dk_at dksX6_hopping_2 14 rfl rfl)
theorem dX6_hopping_63 : decode cX6_hopping 63 = .ok (.iload_n 3, 1) := dk_29 (dk_at dksX6_hopping_2 16 rfl rfl)
theorem dX6_hopping_64 : decode cX6_hopping 64 = .ok (.iconst 1, 1) := dk_4 (dk_at dksX6_hopping_2 17 rfl rfl)
theorem dX6_hopping_65 : decode cX6_hopping 65 = .ok (.if_icmp .eq 8, 3) := dk_159 0 8 (dk_at dksX6_hopping_2 18 rfl rfl)
theorem dX6_hopping_68 : decode cX6_hopping 68 = .ok (.iload_n 3, 1) := dk_29 (dk_at dksX6_hopping_2 21 rfl rfl)
theorem dX6_hopping_69 : decode cX6_hopping 69 = .ok (.iconst 3, 1) := dk_6 (dk_at dksX6_hopping_2 22 rfl rfl)
theorem dX6_hopping_70 : decode cX6_hopping 70 = .ok (.if_icmp .ne 14, 3) := dk_160 0 14 (dk_at dksX6_hopping_3 0 rfl rfl)
theorem dX6_hopping_73 : decode cX6_hopping 73 = .ok (.iload 4, 2) := dk_21 4 (dk_at dksX6_hopping_3 3 rfl rfl)
theorem dX6_hopping_75 : decode cX6_hopping 75 = .ok (.aload_n 0, 1) := dk_42 (dk_at dksX6_hopping_3 5 rfl rfl)
theorem dX6_hopping_76 : decode cX6_hopping 76 = .ok (.getfield 35, 3) := dk_180 0 35 (dk_at dksX6_hopping_3 6 rfl rfl)
theorem dX6_hopping_79 : decode cX6_hopping 79 = .ok (.iload_n 1, 1) := dk_27 (dk_at dksX6_hopping_3 9 rfl rfl)
theorem dX6_hopping_80 : decode cX6_hopping 80 = .ok (.iaload, 1) := dk_46 (dk_at dksX6_hopping_3 10 rfl rfl)
theorem dX6_hopping_81 : decode cX6_hopping 81 = .ok (.iadd, 1) := dk_96 (dk_at dksX6_hopping_3 11 rfl rfl)
theorem dX6_hopping_82 : decode cX6_hopping 82 = .ok (.istore 4, 2) := dk_54 4 (dk_at dksX6_hopping_3 12 rfl rfl)
theorem dX6_hopping_84 : decode cX6_hopping 84 = .ok (.iload_n 3, 1) := dk_29 (dk_at dksX6_hopping_3 14 rfl rfl)
theorem dX6_hopping_85 : decode cX6_hopping 85 = .ok (.iconst 4, 1) := dk_7 (dk_at dksX6_hopping_3 15 rfl rfl)
theorem dX6_hopping_86 : decode cX6_hopping 86 = .ok (.if_icmp .eq 9, 3) := dk_159 0 9 (dk_at dksX6_hopping_3 16 rfl rfl)
theorem dX6_hopping_89 : decode cX6_hopping 89 = .ok (.iload_n 3, 1) := dk_29 (dk_at dksX6_hopping_3 19 rfl rfl)
theorem dX6_hopping_90 : decode cX6_hopping 90 = .ok (.bipush 6, 2) := dk_16 6 (dk_at dksX6_hopping_3 20 rfl rfl)
theorem dX6_hopping_92 : decode cX6_hopping 92 = .ok (.if_icmp .ne 9, 3) := dk_160 0 9 (dk_at dksX6_hopping_4 0 rfl rfl)
theorem dX6_hopping_95 : decode cX6_hopping 95 = .ok (.iload 4, 2) := dk_21 4 (dk_at dksX6_hopping_4 3 rfl rfl)
theorem dX6_hopping_97 : decode cX6_hopping 97 = .ok (.iload_n 1, 1) := dk_27 (dk_at dksX6_hopping_4 5 rfl rfl)
theorem dX6_hopping_98 : decode cX6_hopping 98 = .ok (.isub, 1) := dk_100 (dk_at dksX6_hopping_4 6 rfl rfl)
theorem dX6_hopping_99 : decode cX6_hopping 99 = .ok (.istore 4, 2) := dk_54 4 (dk_at dksX6_hopping_4 7 rfl rfl)
theorem dX6_hopping_101 : decode cX6_hopping 101 = .ok (.iload_n 3, 1) := dk_29 (dk_at dksX6_hopping_4 9 rfl rfl)
theorem dX6_hopping_102 : decode cX6_hopping 102 = .ok (.bipush 6, 2) := dk_16 6 (dk_at dksX6_hopping_4 10 rfl rfl)
theorem dX6_hopping_104 : decode cX6_hopping 104 = .ok (.if_icmp .ne 10, 3) := dk_160 0 10 (dk_at dksX6_hopping_4 12 rfl rfl)
theorem dX6_hopping_107 : decode cX6_hopping 107 = .ok (.iload 4, 2) := dk_21 4 (dk_at dksX6_hopping_4 15 rfl rfl)
theorem dX6_hopping_109 : decode cX6_hopping 109 = .ok (.iconst 2, 1) := dk_5 (dk_at dksX6_hopping_4 17 rfl rfl)
theorem dX6_hopping_110 : decode cX6_hopping 110 = .ok (.imul, 1) := dk_104 (dk_at dksX6_hopping_4 18 rfl rfl)
theorem dX6_hopping_111 : decode cX6_hopping 111 = .ok (.goto 5, 3) := dk_167 0 5 (dk_at dksX6_hopping_4 19 rfl rfl)
theorem dX6_hopping_114 : decode cX6_hopping 114 = .ok (.iload 4, 2) := dk_21 4 (dk_at dksX6_hopping_4 22 rfl rfl)
theorem dX6_hopping_116 : decode cX6_hopping 116 = .ok (.ireturn, 1) := dk_172 (dk_at dksX6_hopping_5 0 rfl rfl)
abbrev cX6_body : ByteArray := prog_23_method_87_code
def yX6_body : MethodName := ⟨RX6, "body", "(I)V"⟩
def dkwX6_body_1 : List UInt8 := [4, 96, 181, 1, 90, 177]
abbrev dktX6_body_1 : List UInt8 := dkwX6_body_1 ++ []
def dkwX6_body_0 : List UInt8 := [42, 180, 1, 90, 16, 20, 162, 0, 13, 42, 180, 0, 114, 42, 180, 1, 90, 27, 79, 42, 89, 180, 1, 90]
abbrev dktX6_body_0 : List UInt8 := dkwX6_body_0 ++ dktX6_body_1
theorem dksX6_body_0 : cX6_body.data.toList.drop 0 = dktX6_body_0 := by decide +kernel
theorem dksX6_body_1 : cX6_body.data.toList.drop 24 = dktX6_body_1 := dk_seg dksX6_body_0 24 rfl rfl
theorem dX6_body_0 : decode cX6_body 0 = .ok (.aload_n 0, 1) := dk_42 (dk_at dksX6_body_0 0 rfl rfl)
theorem dX6_body_1 : decode cX6_body 1 = .ok (.getfield 346, 3) := dk_180 1 90 (dk_at dksX6_body_0 1 rfl rfl)
theorem dX6_body_4 : decode cX6_body 4 = .ok (.bipush 20, 2) := dk_16 20 (dk_at dksX6_body_0 4 rfl rfl)
theorem dX6_body_6 : decode cX6_body 6 = .ok (.if_icmp .ge 13, 3) := dk_162 0 13 (dk_at dksX6_body_0 6 rfl rfl)
theorem dX6_body_9 : decode cX6_body 9 = .ok (.aload_n 0, 1) := dk_42 (dk_at dksX6_body_0 9 rfl rfl)
theorem dX6_body_10 : decode cX6_body 10 = .ok (.getfield 114, 3) := dk_180 0 114 (dk_at dksX6_body_0 10 rfl rfl)
theorem dX6_body_13 : decode cX6_body 13 = .ok (.aload_n 0, 1) := dk_42 (dk_at dksX6_body_0 13 rfl rfl)
theorem dX6_body_14 : decode cX6_body 14 = .ok (.getfield 346, 3) := dk_180 1 90 (dk_at dksX6_body_0 14 rfl rfl)
theorem dX6_body_17 : decode cX6_body 17 = .ok (.iload_n 1, 1) := dk_27 (dk_at dksX6_body_0 17 rfl rfl)
theorem dX6_body_18 : decode cX6_body 18 = .ok (.iastore, 1) := dk_79 (dk_at dksX6_body_0 18 rfl rfl)
theorem dX6_body_19 : decode cX6_body 19 = .ok (.aload_n 0, 1) := dk_42 (dk_at dksX6_body_0 19 rfl rfl)
theorem dX6_body_20 : decode cX6_body 20 = .ok (.dup, 1) := dk_89 (dk_at dksX6_body_0 20 rfl rfl)
theorem dX6_body_21 : decode cX6_body 21 = .ok (.getfield 346, 3) := dk_180 1 90 (dk_at dksX6_body_0 21 rfl rfl)
theorem dX6_body_24 : decode cX6_body 24 = .ok (.iconst 1, 1) := dk_4 (dk_at dksX6_body_1 0 rfl rfl)
theorem dX6_body_25 : decode cX6_body 25 = .ok (.iadd, 1) := dk_96 (dk_at dksX6_body_1 1 rfl rfl)
theorem dX6_body_26 : decode cX6_body 26 = .ok (.putfield 346, 3) := dk_181 1 90 (dk_at dksX6_body_1 2 rfl rfl)
theorem dX6_body_29 : decode cX6_body 29 = .ok (.return_, 1) := dk_177 (dk_at dksX6_body_1 5 rfl rfl)
abbrev cX6_falling : ByteArray := prog_23_method_89_code
def yX6_falling : MethodName := ⟨RX6, "falling", "(II)I"⟩
def dkwX6_falling_4 : List UInt8 := [153, 0, 10, 21, 6, 6, 104, 167, 0, 5, 21, 6, 172]
abbrev dktX6_falling_4 : List UInt8 := dkwX6_falling_4 ++ []
def dkwX6_falling_3 : List UInt8 := [16, 30, 182, 1, 93, 42, 16, 11, 182, 1, 93, 42, 27, 21, 4, 182, 1, 96, 5, 104, 54, 6, 21, 5]
abbrev dktX6_falling_3 : List UInt8 := dkwX6_falling_3 ++ dktX6_falling_4
def dkwX6_falling_2 : List UInt8 := [29, 5, 159, 0, 8, 29, 8, 160, 0, 7, 4, 167, 0, 4, 3, 54, 5, 21, 5, 153, 0, 9, 42]
abbrev dktX6_falling_2 : List UInt8 := dkwX6_falling_2 ++ dktX6_falling_3
def dkwX6_falling_1 : List UInt8 := [180, 0, 35, 27, 46, 100, 54, 4, 29, 6, 160, 0, 14, 42, 16, 40, 182, 1, 93, 28, 4, 96, 54, 4]
abbrev dktX6_falling_1 : List UInt8 := dkwX6_falling_1 ++ dktX6_falling_2
def dkwX6_falling_0 : List UInt8 := [42, 180, 0, 32, 27, 46, 62, 28, 54, 4, 29, 16, 6, 160, 0, 19, 42, 16, 71, 182, 1, 93, 28, 42]
abbrev dktX6_falling_0 : List UInt8 := dkwX6_falling_0 ++ dktX6_falling_1
theorem dksX6_falling_0 : cX6_falling.data.toList.drop 0 = dktX6_falling_0 := by decide +kernel
theorem dksX6_falling_1 : cX6_falling.data.toList.drop 24 = dktX6_falling_1 := dk_seg dksX6_falling_0 24 rfl rfl
theorem dksX6_falling_2 : cX6_falling.data.toList.drop 48 = dktX6_falling_2 := dk_seg dksX6_falling_1 24 rfl rfl
theorem dksX6_falling_3 : cX6_falling.data.toList.drop 71 = dktX6_falling_3 := dk_seg dksX6_falling_2 23 rfl rfl
theorem dksX6_falling_4 : cX6_falling.data.toList.drop 95 = dktX6_falling_4 := dk_seg dksX6_falling_3 24 rfl rfl
theorem dX6_falling_0 : decode cX6_falling 0 = .ok (.aload_n 0, 1) := dk_42 (dk_at dksX6_falling_0 0 rfl rfl)
theorem dX6_falling_1 : decode cX6_falling 1 = .ok (.getfield 32, 3) := dk_180 0 32 (dk_at dksX6_falling_0 1 rfl rfl)
theorem dX6_falling_4 : decode cX6_falling 4 = .ok (.iload_n 1, 1) := dk_27 (dk_at dksX6_falling_0 4 rfl rfl)
theorem dX6_falling_5 : decode cX6_falling 5 = .ok (.iaload, 1) := dk_46 (dk_at dksX6_falling_0 5 rfl rfl)
theorem dX6_falling_6 : decode cX6_falling 6 = .ok (.istore_n 3, 1) := dk_62 (dk_at dksX6_falling_0 6 rfl rfl)
theorem dX6_falling_7 : decode cX6_falling 7 = .ok (.iload_n 2, 1) := dk_28 (dk_at dksX6_falling_0 7 rfl rfl)
theorem dX6_falling_8 : decode cX6_falling 8 = .ok (.istore 4, 2) := dk_54 4 (dk_at dksX6_falling_0 8 rfl rfl)
theorem dX6_falling_10 : decode cX6_falling 10 = .ok (.iload_n 3, 1) := dk_29 (dk_at dksX6_falling_0 10 rfl rfl)
theorem dX6_falling_11 : decode cX6_falling 11 = .ok (.bipush 6, 2) := dk_16 6 (dk_at dksX6_falling_0 11 rfl rfl)
theorem dX6_falling_13 : decode cX6_falling 13 = .ok (.if_icmp .ne 19, 3) := dk_160 0 19 (dk_at dksX6_falling_0 13 rfl rfl)
theorem dX6_falling_16 : decode cX6_falling 16 = .ok (.aload_n 0, 1) := dk_42 (dk_at dksX6_falling_0 16 rfl rfl)
theorem dX6_falling_17 : decode cX6_falling 17 = .ok (.bipush 71, 2) := dk_16 71 (dk_at dksX6_falling_0 17 rfl rfl)
theorem dX6_falling_19 : decode cX6_falling 19 = .ok (.invokevirtual 349, 3) := dk_182 1 93 (dk_at dksX6_falling_0 19 rfl rfl)
theorem dX6_falling_22 : decode cX6_falling 22 = .ok (.iload_n 2, 1) := dk_28 (dk_at dksX6_falling_0 22 rfl rfl)
theorem dX6_falling_23 : decode cX6_falling 23 = .ok (.aload_n 0, 1) := dk_42 (dk_at dksX6_falling_0 23 rfl rfl)
theorem dX6_falling_24 : decode cX6_falling 24 = .ok (.getfield 35, 3) := dk_180 0 35 (dk_at dksX6_falling_1 0 rfl rfl)
theorem dX6_falling_27 : decode cX6_falling 27 = .ok (.iload_n 1, 1) := dk_27 (dk_at dksX6_falling_1 3 rfl rfl)
theorem dX6_falling_28 : decode cX6_falling 28 = .ok (.iaload, 1) := dk_46 (dk_at dksX6_falling_1 4 rfl rfl)
theorem dX6_falling_29 : decode cX6_falling 29 = .ok (.isub, 1) := dk_100 (dk_at dksX6_falling_1 5 rfl rfl)
theorem dX6_falling_30 : decode cX6_falling 30 = .ok (.istore 4, 2) := dk_54 4 (dk_at dksX6_falling_1 6 rfl rfl)
theorem dX6_falling_32 : decode cX6_falling 32 = .ok (.iload_n 3, 1) := dk_29 (dk_at dksX6_falling_1 8 rfl rfl)
theorem dX6_falling_33 : decode cX6_falling 33 = .ok (.iconst 3, 1) := dk_6 (dk_at dksX6_falling_1 9 rfl rfl)
theorem dX6_falling_34 : decode cX6_falling 34 = .ok (.if_icmp .ne 14, 3) := dk_160 0 14 (dk_at dksX6_falling_1 10 rfl rfl)
theorem dX6_falling_37 : decode cX6_falling 37 = .ok (.aload_n 0, 1) := dk_42 (dk_at dksX6_falling_1 13 rfl rfl)
theorem dX6_falling_38 : decode cX6_falling 38 = .ok (.bipush 40, 2) := dk_16 40 (dk_at dksX6_falling_1 14 rfl rfl)
theorem dX6_falling_40 : decode cX6_falling 40 = .ok (.invokevirtual 349, 3) := dk_182 1 93 (dk_at dksX6_falling_1 16 rfl rfl)
theorem dX6_falling_43 : decode cX6_falling 43 = .ok (.iload_n 2, 1) := dk_28 (dk_at dksX6_falling_1 19 rfl rfl)
theorem dX6_falling_44 : decode cX6_falling 44 = .ok (.iconst 1, 1) := dk_4 (dk_at dksX6_falling_1 20 rfl rfl)
theorem dX6_falling_45 : decode cX6_falling 45 = .ok (.iadd, 1) := dk_96 (dk_at dksX6_falling_1 21 rfl rfl)
theorem dX6_falling_46 : decode cX6_falling 46 = .ok (.istore 4, 2) := dk_54 4 (dk_at dksX6_falling_1 22 rfl rfl)
theorem dX6_falling_48 : decode cX6_falling 48 = .ok (.iload_n 3, 1) := dk_29 (dk_at dksX6_falling_2 0 rfl rfl)
theorem dX6_falling_49 : decode cX6_falling 49 = .ok (.iconst 2, 1) := dk_5 (dk_at dksX6_falling_2 1 rfl rfl)
theorem dX6_falling_50 : decode cX6_falling 50 = .ok (.if_icmp .eq 8, 3) := dk_159 0 8 (dk_at dksX6_falling_2 2 rfl rfl)
theorem dX6_falling_53 : decode cX6_falling 53 = .ok (.iload_n 3, 1) := dk_29 (dk_at dksX6_falling_2 5 rfl rfl)
theorem dX6_falling_54 : decode cX6_falling 54 = .ok (.iconst 5, 1) := dk_8 (dk_at dksX6_falling_2 6 rfl rfl)
theorem dX6_falling_55 : decode cX6_falling 55 = .ok (.if_icmp .ne 7, 3) := dk_160 0 7 (dk_at dksX6_falling_2 7 rfl rfl)
theorem dX6_falling_58 : decode cX6_falling 58 = .ok (.iconst 1, 1) := dk_4 (dk_at dksX6_falling_2 10 rfl rfl)
theorem dX6_falling_59 : decode cX6_falling 59 = .ok (.goto 4, 3) := dk_167 0 4 (dk_at dksX6_falling_2 11 rfl rfl)
theorem dX6_falling_62 : decode cX6_falling 62 = .ok (.iconst 0, 1) := dk_3 (dk_at dksX6_falling_2 14 rfl rfl)
theorem dX6_falling_63 : decode cX6_falling 63 = .ok (.istore 5, 2) := dk_54 5 (dk_at dksX6_falling_2 15 rfl rfl)
theorem dX6_falling_65 : decode cX6_falling 65 = .ok (.iload 5, 2) := dk_21 5 (dk_at dksX6_falling_2 17 rfl rfl)
theorem dX6_falling_67 : decode cX6_falling 67 = .ok (.ifCond .eq 9, 3) := dk_153 0 9 (dk_at dksX6_falling_2 19 rfl rfl)
theorem dX6_falling_70 : decode cX6_falling 70 = .ok (.aload_n 0, 1) := dk_42 (dk_at dksX6_falling_2 22 rfl rfl)
theorem dX6_falling_71 : decode cX6_falling 71 = .ok (.bipush 30, 2) := dk_16 30 (dk_at dksX6_falling_3 0 rfl rfl)
theorem dX6_falling_73 : decode cX6_falling 73 = .ok (.invokevirtual 349, 3) := dk_182 1 93 (dk_at dksX6_falling_3 2 rfl rfl)
theorem dX6_falling_76 : decode cX6_falling 76 = .ok (.aload_n 0, 1) := dk_42 (dk_at dksX6_falling_3 5 rfl rfl)
theorem dX6_falling_77 : decode cX6_falling 77 = .ok (.bipush 11, 2) := dk_16 11 (dk_at dksX6_falling_3 6 rfl rfl)
theorem dX6_falling_79 : decode cX6_falling 79 = .ok (.invokevirtual 349, 3) := dk_182 1 93 (dk_at dksX6_falling_3 8 rfl rfl)
theorem dX6_falling_82 : decode cX6_falling 82 = .ok (.aload_n 0, 1) := dk_42 (dk_at dksX6_falling_3 11 rfl rfl)
theorem dX6_falling_83 : decode cX6_falling 83 = .ok (.iload_n 1, 1) := dk_27 (dk_at dksX6_falling_3 12 rfl rfl)
theorem dX6_falling_84 : decode cX6_falling 84 = .ok (.iload 4, 2) := dk_21 4 (dk_at dksX6_falling_3 13 rfl rfl)
theorem dX6_falling_86 : decode cX6_falling 86 = .ok (.invokevirtual 352, 3) := dk_182 1 96 (dk_at dksX6_falling_3 15 rfl rfl)
theorem dX6_falling_89 : decode cX6_falling 89 = .ok (.iconst 2, 1) := dk_5 (dk_at dksX6_falling_3 18 rfl rfl)
theorem dX6_falling_90 : decode cX6_falling 90 = .ok (.imul, 1) := dk_104 (dk_at dksX6_falling_3 19 rfl rfl)
theorem dX6_falling_91 : decode cX6_falling 91 = .ok (.istore 6, 2) := dk_54 6 (dk_at dksX6_falling_3 20 rfl rfl)
theorem dX6_falling_93 : decode cX6_falling 93 = .ok (.iload 5, 2) := dk_21 5 (dk_at dksX6_falling_3 22 rfl rfl)
theorem dX6_falling_95 : decode cX6_falling 95 = .ok (.ifCond .eq 10, 3) := dk_153 0 10 (dk_at dksX6_falling_4 0 rfl rfl)
theorem dX6_falling_98 : decode cX6_falling 98 = .ok (.iload 6, 2) := dk_21 6 (dk_at dksX6_falling_4 3 rfl rfl)
theorem dX6_falling_100 : decode cX6_falling 100 = .ok (.iconst 3, 1) := dk_6 (dk_at dksX6_falling_4 5 rfl rfl)
theorem dX6_falling_101 : decode cX6_falling 101 = .ok (.imul, 1) := dk_104 (dk_at dksX6_falling_4 6 rfl rfl)
theorem dX6_falling_102 : decode cX6_falling 102 = .ok (.goto 5, 3) := dk_167 0 5 (dk_at dksX6_falling_4 7 rfl rfl)
theorem dX6_falling_105 : decode cX6_falling 105 = .ok (.iload 6, 2) := dk_21 6 (dk_at dksX6_falling_4 10 rfl rfl)
theorem dX6_falling_107 : decode cX6_falling 107 = .ok (.ireturn, 1) := dk_172 (dk_at dksX6_falling_4 12 rfl rfl)
abbrev cX6_rising : ByteArray := prog_23_method_90_code
def yX6_rising : MethodName := ⟨RX6, "rising", "(II)I"⟩
def dkwX6_rising_4 : List UInt8 := [167, 0, 5, 21, 4, 172]
abbrev dktX6_rising_4 : List UInt8 := dkwX6_rising_4 ++ []
def dkwX6_rising_3 : List UInt8 := [159, 0, 9, 29, 16, 6, 160, 0, 9, 21, 4, 116, 167, 0, 17, 29, 8, 160, 0, 10, 21, 4, 8, 130]
abbrev dktX6_rising_3 : List UInt8 := dkwX6_rising_3 ++ dktX6_rising_4
def dkwX6_rising_2 : List UInt8 := [54, 4, 21, 4, 42, 27, 28, 42, 180, 0, 35, 27, 46, 100, 182, 1, 96, 130, 54, 4, 29, 7]
abbrev dktX6_rising_2 : List UInt8 := dkwX6_rising_2 ++ dktX6_rising_3
def dkwX6_rising_1 : List UInt8 := [29, 8, 160, 0, 9, 42, 16, 60, 182, 1, 93, 42, 16, 12, 182, 1, 93, 42, 27, 28, 182, 1, 99]
abbrev dktX6_rising_1 : List UInt8 := dkwX6_rising_1 ++ dktX6_rising_2
def dkwX6_rising_0 : List UInt8 := [42, 180, 0, 32, 27, 46, 62, 29, 7, 159, 0, 9, 29, 16, 6, 160, 0, 9, 42, 16, 50, 182, 1, 93]
abbrev dktX6_rising_0 : List UInt8 := dkwX6_rising_0 ++ dktX6_rising_1
theorem dksX6_rising_0 : cX6_rising.data.toList.drop 0 = dktX6_rising_0 := by decide +kernel
theorem dksX6_rising_1 : cX6_rising.data.toList.drop 24 = dktX6_rising_1 := dk_seg dksX6_rising_0 24 rfl rfl
theorem dksX6_rising_2 : cX6_rising.data.toList.drop 47 = dktX6_rising_2 := dk_seg dksX6_rising_1 23 rfl rfl
theorem dksX6_rising_3 : cX6_rising.data.toList.drop 69 = dktX6_rising_3 := dk_seg dksX6_rising_2 22 rfl rfl
theorem dksX6_rising_4 : cX6_rising.data.toList.drop 93 = dktX6_rising_4 := dk_seg dksX6_rising_3 24 rfl rfl
theorem dX6_rising_0 : decode cX6_rising 0 = .ok (.aload_n 0, 1) := dk_42 (dk_at dksX6_rising_0 0 rfl rfl)
theorem dX6_rising_1 : decode cX6_rising 1 = .ok (.getfield 32, 3) := dk_180 0 32 (dk_at dksX6_rising_0 1 rfl rfl)
theorem dX6_rising_4 : decode cX6_rising 4 = .ok (.iload_n 1, 1) := dk_27 (dk_at dksX6_rising_0 4 rfl rfl)
theorem dX6_rising_5 : decode cX6_rising 5 = .ok (.iaload, 1) := dk_46 (dk_at dksX6_rising_0 5 rfl rfl)
theorem dX6_rising_6 : decode cX6_rising 6 = .ok (.istore_n 3, 1) := dk_62 (dk_at dksX6_rising_0 6 rfl rfl)
theorem dX6_rising_7 : decode cX6_rising 7 = .ok (.iload_n 3, 1) := dk_29 (dk_at dksX6_rising_0 7 rfl rfl)
theorem dX6_rising_8 : decode cX6_rising 8 = .ok (.iconst 4, 1) := dk_7 (dk_at dksX6_rising_0 8 rfl rfl)
theorem dX6_rising_9 : decode cX6_rising 9 = .ok (.if_icmp .eq 9, 3) := dk_159 0 9 (dk_at dksX6_rising_0 9 rfl rfl)
theorem dX6_rising_12 : decode cX6_rising 12 = .ok (.iload_n 3, 1) := dk_29 (dk_at dksX6_rising_0 12 rfl rfl)
theorem dX6_rising_13 : decode cX6_rising 13 = .ok (.bipush 6, 2) := dk_16 6 (dk_at dksX6_rising_0 13 rfl rfl)
theorem dX6_rising_15 : decode cX6_rising 15 = .ok (.if_icmp .ne 9, 3) := dk_160 0 9 (dk_at dksX6_rising_0 15 rfl rfl)
theorem dX6_rising_18 : decode cX6_rising 18 = .ok (.aload_n 0, 1) := dk_42 (dk_at dksX6_rising_0 18 rfl rfl)
theorem dX6_rising_19 : decode cX6_rising 19 = .ok (.bipush 50, 2) := dk_16 50 (dk_at dksX6_rising_0 19 rfl rfl)
theorem dX6_rising_21 : decode cX6_rising 21 = .ok (.invokevirtual 349, 3) := dk_182 1 93 (dk_at dksX6_rising_0 21 rfl rfl)
theorem dX6_rising_24 : decode cX6_rising 24 = .ok (.iload_n 3, 1) := dk_29 (dk_at dksX6_rising_1 0 rfl rfl)
theorem dX6_rising_25 : decode cX6_rising 25 = .ok (.iconst 5, 1) := dk_8 (dk_at dksX6_rising_1 1 rfl rfl)
theorem dX6_rising_26 : decode cX6_rising 26 = .ok (.if_icmp .ne 9, 3) := dk_160 0 9 (dk_at dksX6_rising_1 2 rfl rfl)
theorem dX6_rising_29 : decode cX6_rising 29 = .ok (.aload_n 0, 1) := dk_42 (dk_at dksX6_rising_1 5 rfl rfl)
theorem dX6_rising_30 : decode cX6_rising 30 = .ok (.bipush 60, 2) := dk_16 60 (dk_at dksX6_rising_1 6 rfl rfl)
theorem dX6_rising_32 : decode cX6_rising 32 = .ok (.invokevirtual 349, 3) := dk_182 1 93 (dk_at dksX6_rising_1 8 rfl rfl)
theorem dX6_rising_35 : decode cX6_rising 35 = .ok (.aload_n 0, 1) := dk_42 (dk_at dksX6_rising_1 11 rfl rfl)
theorem dX6_rising_36 : decode cX6_rising 36 = .ok (.bipush 12, 2) := dk_16 12 (dk_at dksX6_rising_1 12 rfl rfl)
theorem dX6_rising_38 : decode cX6_rising 38 = .ok (.invokevirtual 349, 3) := dk_182 1 93 (dk_at dksX6_rising_1 14 rfl rfl)
theorem dX6_rising_41 : decode cX6_rising 41 = .ok (.aload_n 0, 1) := dk_42 (dk_at dksX6_rising_1 17 rfl rfl)
theorem dX6_rising_42 : decode cX6_rising 42 = .ok (.iload_n 1, 1) := dk_27 (dk_at dksX6_rising_1 18 rfl rfl)
theorem dX6_rising_43 : decode cX6_rising 43 = .ok (.iload_n 2, 1) := dk_28 (dk_at dksX6_rising_1 19 rfl rfl)
theorem dX6_rising_44 : decode cX6_rising 44 = .ok (.invokevirtual 355, 3) := dk_182 1 99 (dk_at dksX6_rising_1 20 rfl rfl)
theorem dX6_rising_47 : decode cX6_rising 47 = .ok (.istore 4, 2) := dk_54 4 (dk_at dksX6_rising_2 0 rfl rfl)
theorem dX6_rising_49 : decode cX6_rising 49 = .ok (.iload 4, 2) := dk_21 4 (dk_at dksX6_rising_2 2 rfl rfl)
theorem dX6_rising_51 : decode cX6_rising 51 = .ok (.aload_n 0, 1) := dk_42 (dk_at dksX6_rising_2 4 rfl rfl)
theorem dX6_rising_52 : decode cX6_rising 52 = .ok (.iload_n 1, 1) := dk_27 (dk_at dksX6_rising_2 5 rfl rfl)
theorem dX6_rising_53 : decode cX6_rising 53 = .ok (.iload_n 2, 1) := dk_28 (dk_at dksX6_rising_2 6 rfl rfl)
theorem dX6_rising_54 : decode cX6_rising 54 = .ok (.aload_n 0, 1) := dk_42 (dk_at dksX6_rising_2 7 rfl rfl)
theorem dX6_rising_55 : decode cX6_rising 55 = .ok (.getfield 35, 3) := dk_180 0 35 (dk_at dksX6_rising_2 8 rfl rfl)
theorem dX6_rising_58 : decode cX6_rising 58 = .ok (.iload_n 1, 1) := dk_27 (dk_at dksX6_rising_2 11 rfl rfl)
theorem dX6_rising_59 : decode cX6_rising 59 = .ok (.iaload, 1) := dk_46 (dk_at dksX6_rising_2 12 rfl rfl)
theorem dX6_rising_60 : decode cX6_rising 60 = .ok (.isub, 1) := dk_100 (dk_at dksX6_rising_2 13 rfl rfl)
theorem dX6_rising_61 : decode cX6_rising 61 = .ok (.invokevirtual 352, 3) := dk_182 1 96 (dk_at dksX6_rising_2 14 rfl rfl)
theorem dX6_rising_64 : decode cX6_rising 64 = .ok (.ixor, 1) := dk_130 (dk_at dksX6_rising_2 17 rfl rfl)
theorem dX6_rising_65 : decode cX6_rising 65 = .ok (.istore 4, 2) := dk_54 4 (dk_at dksX6_rising_2 18 rfl rfl)
theorem dX6_rising_67 : decode cX6_rising 67 = .ok (.iload_n 3, 1) := dk_29 (dk_at dksX6_rising_2 20 rfl rfl)
theorem dX6_rising_68 : decode cX6_rising 68 = .ok (.iconst 4, 1) := dk_7 (dk_at dksX6_rising_2 21 rfl rfl)
theorem dX6_rising_69 : decode cX6_rising 69 = .ok (.if_icmp .eq 9, 3) := dk_159 0 9 (dk_at dksX6_rising_3 0 rfl rfl)
theorem dX6_rising_72 : decode cX6_rising 72 = .ok (.iload_n 3, 1) := dk_29 (dk_at dksX6_rising_3 3 rfl rfl)
theorem dX6_rising_73 : decode cX6_rising 73 = .ok (.bipush 6, 2) := dk_16 6 (dk_at dksX6_rising_3 4 rfl rfl)
theorem dX6_rising_75 : decode cX6_rising 75 = .ok (.if_icmp .ne 9, 3) := dk_160 0 9 (dk_at dksX6_rising_3 6 rfl rfl)
theorem dX6_rising_78 : decode cX6_rising 78 = .ok (.iload 4, 2) := dk_21 4 (dk_at dksX6_rising_3 9 rfl rfl)
theorem dX6_rising_80 : decode cX6_rising 80 = .ok (.ineg, 1) := dk_116 (dk_at dksX6_rising_3 11 rfl rfl)
theorem dX6_rising_81 : decode cX6_rising 81 = .ok (.goto 17, 3) := dk_167 0 17 (dk_at dksX6_rising_3 12 rfl rfl)
theorem dX6_rising_84 : decode cX6_rising 84 = .ok (.iload_n 3, 1) := dk_29 (dk_at dksX6_rising_3 15 rfl rfl)
theorem dX6_rising_85 : decode cX6_rising 85 = .ok (.iconst 5, 1) := dk_8 (dk_at dksX6_rising_3 16 rfl rfl)
theorem dX6_rising_86 : decode cX6_rising 86 = .ok (.if_icmp .ne 10, 3) := dk_160 0 10 (dk_at dksX6_rising_3 17 rfl rfl)
theorem dX6_rising_89 : decode cX6_rising 89 = .ok (.iload 4, 2) := dk_21 4 (dk_at dksX6_rising_3 20 rfl rfl)
theorem dX6_rising_91 : decode cX6_rising 91 = .ok (.iconst 5, 1) := dk_8 (dk_at dksX6_rising_3 22 rfl rfl)
theorem dX6_rising_92 : decode cX6_rising 92 = .ok (.ixor, 1) := dk_130 (dk_at dksX6_rising_3 23 rfl rfl)
theorem dX6_rising_93 : decode cX6_rising 93 = .ok (.goto 5, 3) := dk_167 0 5 (dk_at dksX6_rising_4 0 rfl rfl)
theorem dX6_rising_96 : decode cX6_rising 96 = .ok (.iload 4, 2) := dk_21 4 (dk_at dksX6_rising_4 3 rfl rfl)
theorem dX6_rising_98 : decode cX6_rising 98 = .ok (.ireturn, 1) := dk_172 (dk_at dksX6_rising_4 5 rfl rfl)
abbrev cX6_trace : ByteArray := prog_23_method_92_code
def yX6_trace : MethodName := ⟨RX6, "trace", "(I)I"⟩
def dkwX6_trace_1 : List UInt8 := [167, 0, 4, 2, 172]
abbrev dktX6_trace_1 : List UInt8 := dkwX6_trace_1 ++ []
def dkwX6_trace_0 : List UInt8 := [27, 155, 0, 26, 27, 16, 20, 162, 0, 20, 27, 42, 180, 1, 90, 162, 0, 12, 42, 180, 0, 114, 27, 46]
abbrev dktX6_trace_0 : List UInt8 := dkwX6_trace_0 ++ dktX6_trace_1
theorem dksX6_trace_0 : cX6_trace.data.toList.drop 0 = dktX6_trace_0 := by decide +kernel
theorem dksX6_trace_1 : cX6_trace.data.toList.drop 24 = dktX6_trace_1 := dk_seg dksX6_trace_0 24 rfl rfl
theorem dX6_trace_0 : decode cX6_trace 0 = .ok (.iload_n 1, 1) := dk_27 (dk_at dksX6_trace_0 0 rfl rfl)
theorem dX6_trace_1 : decode cX6_trace 1 = .ok (.ifCond .lt 26, 3) := dk_155 0 26 (dk_at dksX6_trace_0 1 rfl rfl)
theorem dX6_trace_4 : decode cX6_trace 4 = .ok (.iload_n 1, 1) := dk_27 (dk_at dksX6_trace_0 4 rfl rfl)
theorem dX6_trace_5 : decode cX6_trace 5 = .ok (.bipush 20, 2) := dk_16 20 (dk_at dksX6_trace_0 5 rfl rfl)
theorem dX6_trace_7 : decode cX6_trace 7 = .ok (.if_icmp .ge 20, 3) := dk_162 0 20 (dk_at dksX6_trace_0 7 rfl rfl)
theorem dX6_trace_10 : decode cX6_trace 10 = .ok (.iload_n 1, 1) := dk_27 (dk_at dksX6_trace_0 10 rfl rfl)
theorem dX6_trace_11 : decode cX6_trace 11 = .ok (.aload_n 0, 1) := dk_42 (dk_at dksX6_trace_0 11 rfl rfl)
theorem dX6_trace_12 : decode cX6_trace 12 = .ok (.getfield 346, 3) := dk_180 1 90 (dk_at dksX6_trace_0 12 rfl rfl)
theorem dX6_trace_15 : decode cX6_trace 15 = .ok (.if_icmp .ge 12, 3) := dk_162 0 12 (dk_at dksX6_trace_0 15 rfl rfl)
theorem dX6_trace_18 : decode cX6_trace 18 = .ok (.aload_n 0, 1) := dk_42 (dk_at dksX6_trace_0 18 rfl rfl)
theorem dX6_trace_19 : decode cX6_trace 19 = .ok (.getfield 114, 3) := dk_180 0 114 (dk_at dksX6_trace_0 19 rfl rfl)
theorem dX6_trace_22 : decode cX6_trace 22 = .ok (.iload_n 1, 1) := dk_27 (dk_at dksX6_trace_0 22 rfl rfl)
theorem dX6_trace_23 : decode cX6_trace 23 = .ok (.iaload, 1) := dk_46 (dk_at dksX6_trace_0 23 rfl rfl)
theorem dX6_trace_24 : decode cX6_trace 24 = .ok (.goto 4, 3) := dk_167 0 4 (dk_at dksX6_trace_1 0 rfl rfl)
theorem dX6_trace_27 : decode cX6_trace 27 = .ok (.iconst (-1), 1) := dk_2 (dk_at dksX6_trace_1 3 rfl rfl)
theorem dX6_trace_28 : decode cX6_trace 28 = .ok (.ireturn, 1) := dk_172 (dk_at dksX6_trace_1 4 rfl rfl)
abbrev cX6_image : ByteArray := prog_23_method_93_code
def yX6_image : MethodName := ⟨RX6, "image", "()I"⟩
def dkwX6_image_0 : List UInt8 := [42, 4, 181, 1, 105, 42, 42, 180, 0, 87, 3, 182, 0, 217, 42, 180, 0, 117, 172]
abbrev dktX6_image_0 : List UInt8 := dkwX6_image_0 ++ []
theorem dksX6_image_0 : cX6_image.data.toList.drop 0 = dktX6_image_0 := by decide +kernel
theorem dX6_image_0 : decode cX6_image 0 = .ok (.aload_n 0, 1) := dk_42 (dk_at dksX6_image_0 0 rfl rfl)
theorem dX6_image_1 : decode cX6_image 1 = .ok (.iconst 1, 1) := dk_4 (dk_at dksX6_image_0 1 rfl rfl)
theorem dX6_image_2 : decode cX6_image 2 = .ok (.putfield 361, 3) := dk_181 1 105 (dk_at dksX6_image_0 2 rfl rfl)
theorem dX6_image_5 : decode cX6_image 5 = .ok (.aload_n 0, 1) := dk_42 (dk_at dksX6_image_0 5 rfl rfl)
theorem dX6_image_6 : decode cX6_image 6 = .ok (.aload_n 0, 1) := dk_42 (dk_at dksX6_image_0 6 rfl rfl)
theorem dX6_image_7 : decode cX6_image 7 = .ok (.getfield 87, 3) := dk_180 0 87 (dk_at dksX6_image_0 7 rfl rfl)
theorem dX6_image_10 : decode cX6_image 10 = .ok (.iconst 0, 1) := dk_3 (dk_at dksX6_image_0 10 rfl rfl)
theorem dX6_image_11 : decode cX6_image 11 = .ok (.invokevirtual 217, 3) := dk_182 0 217 (dk_at dksX6_image_0 11 rfl rfl)
theorem dX6_image_14 : decode cX6_image 14 = .ok (.aload_n 0, 1) := dk_42 (dk_at dksX6_image_0 14 rfl rfl)
theorem dX6_image_15 : decode cX6_image 15 = .ok (.getfield 117, 3) := dk_180 0 117 (dk_at dksX6_image_0 15 rfl rfl)
theorem dX6_image_18 : decode cX6_image 18 = .ok (.ireturn, 1) := dk_172 (dk_at dksX6_image_0 18 rfl rfl)
abbrev cX6_restore : ByteArray := prog_23_method_94_code
def yX6_restore : MethodName := ⟨RX6, "restore", "()I"⟩
def dkwX6_restore_2 : List UInt8 := [180, 0, 117, 161, 0, 10, 42, 180, 0, 56, 27, 3, 79, 132, 1, 1, 167, 255, 217, 42, 180, 0, 117, 172]
abbrev dktX6_restore_2 : List UInt8 := dkwX6_restore_2 ++ []
def dkwX6_restore_1 : List UInt8 := [60, 27, 16, 8, 162, 0, 39, 42, 180, 0, 56, 27, 46, 5, 160, 0, 23, 42, 180, 0, 65, 27, 46, 42]
abbrev dktX6_restore_1 : List UInt8 := dkwX6_restore_1 ++ dktX6_restore_2
def dkwX6_restore_0 : List UInt8 := [42, 180, 1, 105, 154, 0, 10, 42, 16, 250, 182, 0, 127, 172, 42, 42, 180, 0, 87, 4, 182, 0, 217, 3]
abbrev dktX6_restore_0 : List UInt8 := dkwX6_restore_0 ++ dktX6_restore_1
theorem dksX6_restore_0 : cX6_restore.data.toList.drop 0 = dktX6_restore_0 := by decide +kernel
theorem dksX6_restore_1 : cX6_restore.data.toList.drop 24 = dktX6_restore_1 := dk_seg dksX6_restore_0 24 rfl rfl
theorem dksX6_restore_2 : cX6_restore.data.toList.drop 48 = dktX6_restore_2 := dk_seg dksX6_restore_1 24 rfl rfl
theorem dX6_restore_0 : decode cX6_restore 0 = .ok (.aload_n 0, 1) := dk_42 (dk_at dksX6_restore_0 0 rfl rfl)
theorem dX6_restore_1 : decode cX6_restore 1 = .ok (.getfield 361, 3) := dk_180 1 105 (dk_at dksX6_restore_0 1 rfl rfl)
theorem dX6_restore_4 : decode cX6_restore 4 = .ok (.ifCond .ne 10, 3) := dk_154 0 10 (dk_at dksX6_restore_0 4 rfl rfl)
theorem dX6_restore_7 : decode cX6_restore 7 = .ok (.aload_n 0, 1) := dk_42 (dk_at dksX6_restore_0 7 rfl rfl)
theorem dX6_restore_8 : decode cX6_restore 8 = .ok (.bipush (-6), 2) := dk_16 250 (dk_at dksX6_restore_0 8 rfl rfl)
theorem dX6_restore_10 : decode cX6_restore 10 = .ok (.invokevirtual 127, 3) := dk_182 0 127 (dk_at dksX6_restore_0 10 rfl rfl)
theorem dX6_restore_13 : decode cX6_restore 13 = .ok (.ireturn, 1) := dk_172 (dk_at dksX6_restore_0 13 rfl rfl)
theorem dX6_restore_14 : decode cX6_restore 14 = .ok (.aload_n 0, 1) := dk_42 (dk_at dksX6_restore_0 14 rfl rfl)
theorem dX6_restore_15 : decode cX6_restore 15 = .ok (.aload_n 0, 1) := dk_42 (dk_at dksX6_restore_0 15 rfl rfl)
theorem dX6_restore_16 : decode cX6_restore 16 = .ok (.getfield 87, 3) := dk_180 0 87 (dk_at dksX6_restore_0 16 rfl rfl)
theorem dX6_restore_19 : decode cX6_restore 19 = .ok (.iconst 1, 1) := dk_4 (dk_at dksX6_restore_0 19 rfl rfl)
theorem dX6_restore_20 : decode cX6_restore 20 = .ok (.invokevirtual 217, 3) := dk_182 0 217 (dk_at dksX6_restore_0 20 rfl rfl)
theorem dX6_restore_23 : decode cX6_restore 23 = .ok (.iconst 0, 1) := dk_3 (dk_at dksX6_restore_0 23 rfl rfl)
theorem dX6_restore_24 : decode cX6_restore 24 = .ok (.istore_n 1, 1) := dk_60 (dk_at dksX6_restore_1 0 rfl rfl)
theorem dX6_restore_25 : decode cX6_restore 25 = .ok (.iload_n 1, 1) := dk_27 (dk_at dksX6_restore_1 1 rfl rfl)
theorem dX6_restore_26 : decode cX6_restore 26 = .ok (.bipush 8, 2) := dk_16 8 (dk_at dksX6_restore_1 2 rfl rfl)
theorem dX6_restore_28 : decode cX6_restore 28 = .ok (.if_icmp .ge 39, 3) := dk_162 0 39 (dk_at dksX6_restore_1 4 rfl rfl)
theorem dX6_restore_31 : decode cX6_restore 31 = .ok (.aload_n 0, 1) := dk_42 (dk_at dksX6_restore_1 7 rfl rfl)
theorem dX6_restore_32 : decode cX6_restore 32 = .ok (.getfield 56, 3) := dk_180 0 56 (dk_at dksX6_restore_1 8 rfl rfl)
theorem dX6_restore_35 : decode cX6_restore 35 = .ok (.iload_n 1, 1) := dk_27 (dk_at dksX6_restore_1 11 rfl rfl)
theorem dX6_restore_36 : decode cX6_restore 36 = .ok (.iaload, 1) := dk_46 (dk_at dksX6_restore_1 12 rfl rfl)
theorem dX6_restore_37 : decode cX6_restore 37 = .ok (.iconst 2, 1) := dk_5 (dk_at dksX6_restore_1 13 rfl rfl)
theorem dX6_restore_38 : decode cX6_restore 38 = .ok (.if_icmp .ne 23, 3) := dk_160 0 23 (dk_at dksX6_restore_1 14 rfl rfl)
theorem dX6_restore_41 : decode cX6_restore 41 = .ok (.aload_n 0, 1) := dk_42 (dk_at dksX6_restore_1 17 rfl rfl)
theorem dX6_restore_42 : decode cX6_restore 42 = .ok (.getfield 65, 3) := dk_180 0 65 (dk_at dksX6_restore_1 18 rfl rfl)
theorem dX6_restore_45 : decode cX6_restore 45 = .ok (.iload_n 1, 1) := dk_27 (dk_at dksX6_restore_1 21 rfl rfl)
theorem dX6_restore_46 : decode cX6_restore 46 = .ok (.iaload, 1) := dk_46 (dk_at dksX6_restore_1 22 rfl rfl)
theorem dX6_restore_47 : decode cX6_restore 47 = .ok (.aload_n 0, 1) := dk_42 (dk_at dksX6_restore_1 23 rfl rfl)
theorem dX6_restore_48 : decode cX6_restore 48 = .ok (.getfield 117, 3) := dk_180 0 117 (dk_at dksX6_restore_2 0 rfl rfl)
theorem dX6_restore_51 : decode cX6_restore 51 = .ok (.if_icmp .lt 10, 3) := dk_161 0 10 (dk_at dksX6_restore_2 3 rfl rfl)
theorem dX6_restore_54 : decode cX6_restore 54 = .ok (.aload_n 0, 1) := dk_42 (dk_at dksX6_restore_2 6 rfl rfl)
theorem dX6_restore_55 : decode cX6_restore 55 = .ok (.getfield 56, 3) := dk_180 0 56 (dk_at dksX6_restore_2 7 rfl rfl)
theorem dX6_restore_58 : decode cX6_restore 58 = .ok (.iload_n 1, 1) := dk_27 (dk_at dksX6_restore_2 10 rfl rfl)
theorem dX6_restore_59 : decode cX6_restore 59 = .ok (.iconst 0, 1) := dk_3 (dk_at dksX6_restore_2 11 rfl rfl)
theorem dX6_restore_60 : decode cX6_restore 60 = .ok (.iastore, 1) := dk_79 (dk_at dksX6_restore_2 12 rfl rfl)
theorem dX6_restore_61 : decode cX6_restore 61 = .ok (.iinc 1 1, 3) := dk_132 1 1 (dk_at dksX6_restore_2 13 rfl rfl)
theorem dX6_restore_64 : decode cX6_restore 64 = .ok (.goto (-39), 3) := dk_167 255 217 (dk_at dksX6_restore_2 16 rfl rfl)
theorem dX6_restore_67 : decode cX6_restore 67 = .ok (.aload_n 0, 1) := dk_42 (dk_at dksX6_restore_2 19 rfl rfl)
theorem dX6_restore_68 : decode cX6_restore 68 = .ok (.getfield 117, 3) := dk_180 0 117 (dk_at dksX6_restore_2 20 rfl rfl)
theorem dX6_restore_71 : decode cX6_restore 71 = .ok (.ireturn, 1) := dk_172 (dk_at dksX6_restore_2 23 rfl rfl)
abbrev cX6_status : ByteArray := prog_23_method_95_code
def yX6_status : MethodName := ⟨RX6, "status", "(I)I"⟩
def dkwX6_status_4 : List UInt8 := [172, 42, 180, 1, 90, 172, 2, 172]
abbrev dktX6_status_4 : List UInt8 := dkwX6_status_4 ++ []
def dkwX6_status_3 : List UInt8 := [42, 180, 0, 117, 172, 42, 180, 0, 120, 172, 42, 180, 0, 170, 172, 42, 180, 0, 211, 172, 42, 180, 0, 22]
abbrev dktX6_status_3 : List UInt8 := dkwX6_status_3 ++ dktX6_status_4
def dkwX6_status_2 : List UInt8 := [170, 0, 0, 0, 0, 0, 85, 0, 0, 0, 0, 0, 0, 0, 9, 0, 0, 0, 55, 0, 0, 0, 60, 0, 0, 0, 85, 0, 0, 0, 85, 0, 0, 0, 85, 0, 0, 0, 85, 0, 0, 0, 65, 0, 0, 0, 70, 0, 0, 0, 75, 0, 0, 0, 80]
abbrev dktX6_status_2 : List UInt8 := dkwX6_status_2 ++ dktX6_status_3
def dkwX6_status_1 : List UInt8 := [161, 0, 16, 27, 8, 163, 0, 11, 42, 27, 5, 100, 182, 0, 163, 172, 27]
abbrev dktX6_status_1 : List UInt8 := dkwX6_status_1 ++ dktX6_status_2
def dkwX6_status_0 : List UInt8 := [27, 16, 11, 161, 0, 19, 27, 16, 17, 163, 0, 13, 42, 180, 0, 28, 27, 16, 10, 100, 46, 172, 27, 5]
abbrev dktX6_status_0 : List UInt8 := dkwX6_status_0 ++ dktX6_status_1
theorem dksX6_status_0 : cX6_status.data.toList.drop 0 = dktX6_status_0 := by decide +kernel
theorem dksX6_status_1 : cX6_status.data.toList.drop 24 = dktX6_status_1 := dk_seg dksX6_status_0 24 rfl rfl
theorem dksX6_status_2 : cX6_status.data.toList.drop 41 = dktX6_status_2 := dk_seg dksX6_status_1 17 rfl rfl
theorem dksX6_status_3 : cX6_status.data.toList.drop 96 = dktX6_status_3 := dk_seg dksX6_status_2 55 rfl rfl
theorem dksX6_status_4 : cX6_status.data.toList.drop 120 = dktX6_status_4 := dk_seg dksX6_status_3 24 rfl rfl
theorem dX6_status_0 : decode cX6_status 0 = .ok (.iload_n 1, 1) := dk_27 (dk_at dksX6_status_0 0 rfl rfl)
theorem dX6_status_1 : decode cX6_status 1 = .ok (.bipush 11, 2) := dk_16 11 (dk_at dksX6_status_0 1 rfl rfl)
theorem dX6_status_3 : decode cX6_status 3 = .ok (.if_icmp .lt 19, 3) := dk_161 0 19 (dk_at dksX6_status_0 3 rfl rfl)
theorem dX6_status_6 : decode cX6_status 6 = .ok (.iload_n 1, 1) := dk_27 (dk_at dksX6_status_0 6 rfl rfl)
theorem dX6_status_7 : decode cX6_status 7 = .ok (.bipush 17, 2) := dk_16 17 (dk_at dksX6_status_0 7 rfl rfl)
theorem dX6_status_9 : decode cX6_status 9 = .ok (.if_icmp .gt 13, 3) := dk_163 0 13 (dk_at dksX6_status_0 9 rfl rfl)
theorem dX6_status_12 : decode cX6_status 12 = .ok (.aload_n 0, 1) := dk_42 (dk_at dksX6_status_0 12 rfl rfl)
theorem dX6_status_13 : decode cX6_status 13 = .ok (.getfield 28, 3) := dk_180 0 28 (dk_at dksX6_status_0 13 rfl rfl)
theorem dX6_status_16 : decode cX6_status 16 = .ok (.iload_n 1, 1) := dk_27 (dk_at dksX6_status_0 16 rfl rfl)
theorem dX6_status_17 : decode cX6_status 17 = .ok (.bipush 10, 2) := dk_16 10 (dk_at dksX6_status_0 17 rfl rfl)
theorem dX6_status_19 : decode cX6_status 19 = .ok (.isub, 1) := dk_100 (dk_at dksX6_status_0 19 rfl rfl)
theorem dX6_status_20 : decode cX6_status 20 = .ok (.iaload, 1) := dk_46 (dk_at dksX6_status_0 20 rfl rfl)
theorem dX6_status_21 : decode cX6_status 21 = .ok (.ireturn, 1) := dk_172 (dk_at dksX6_status_0 21 rfl rfl)
theorem dX6_status_22 : decode cX6_status 22 = .ok (.iload_n 1, 1) := dk_27 (dk_at dksX6_status_0 22 rfl rfl)
theorem dX6_status_23 : decode cX6_status 23 = .ok (.iconst 2, 1) := dk_5 (dk_at dksX6_status_0 23 rfl rfl)
theorem dX6_status_24 : decode cX6_status 24 = .ok (.if_icmp .lt 16, 3) := dk_161 0 16 (dk_at dksX6_status_1 0 rfl rfl)
theorem dX6_status_27 : decode cX6_status 27 = .ok (.iload_n 1, 1) := dk_27 (dk_at dksX6_status_1 3 rfl rfl)
theorem dX6_status_28 : decode cX6_status 28 = .ok (.iconst 5, 1) := dk_8 (dk_at dksX6_status_1 4 rfl rfl)
theorem dX6_status_29 : decode cX6_status 29 = .ok (.if_icmp .gt 11, 3) := dk_163 0 11 (dk_at dksX6_status_1 5 rfl rfl)
theorem dX6_status_32 : decode cX6_status 32 = .ok (.aload_n 0, 1) := dk_42 (dk_at dksX6_status_1 8 rfl rfl)
theorem dX6_status_33 : decode cX6_status 33 = .ok (.iload_n 1, 1) := dk_27 (dk_at dksX6_status_1 9 rfl rfl)
theorem dX6_status_34 : decode cX6_status 34 = .ok (.iconst 2, 1) := dk_5 (dk_at dksX6_status_1 10 rfl rfl)
theorem dX6_status_35 : decode cX6_status 35 = .ok (.isub, 1) := dk_100 (dk_at dksX6_status_1 11 rfl rfl)
theorem dX6_status_36 : decode cX6_status 36 = .ok (.invokevirtual 163, 3) := dk_182 0 163 (dk_at dksX6_status_1 12 rfl rfl)
theorem dX6_status_39 : decode cX6_status 39 = .ok (.ireturn, 1) := dk_172 (dk_at dksX6_status_1 15 rfl rfl)
theorem dX6_status_40 : decode cX6_status 40 = .ok (.iload_n 1, 1) := dk_27 (dk_at dksX6_status_1 16 rfl rfl)
theorem dX6_status_41 : decode cX6_status 41 = .ok (.tableswitch 85 0 9 #[55, 60, 85, 85, 85, 85, 65, 70, 75, 80], 55) := by decide +kernel
theorem dX6_status_96 : decode cX6_status 96 = .ok (.aload_n 0, 1) := dk_42 (dk_at dksX6_status_3 0 rfl rfl)
theorem dX6_status_97 : decode cX6_status 97 = .ok (.getfield 117, 3) := dk_180 0 117 (dk_at dksX6_status_3 1 rfl rfl)
theorem dX6_status_100 : decode cX6_status 100 = .ok (.ireturn, 1) := dk_172 (dk_at dksX6_status_3 4 rfl rfl)
theorem dX6_status_101 : decode cX6_status 101 = .ok (.aload_n 0, 1) := dk_42 (dk_at dksX6_status_3 5 rfl rfl)
theorem dX6_status_102 : decode cX6_status 102 = .ok (.getfield 120, 3) := dk_180 0 120 (dk_at dksX6_status_3 6 rfl rfl)
theorem dX6_status_105 : decode cX6_status 105 = .ok (.ireturn, 1) := dk_172 (dk_at dksX6_status_3 9 rfl rfl)
theorem dX6_status_106 : decode cX6_status 106 = .ok (.aload_n 0, 1) := dk_42 (dk_at dksX6_status_3 10 rfl rfl)
theorem dX6_status_107 : decode cX6_status 107 = .ok (.getfield 170, 3) := dk_180 0 170 (dk_at dksX6_status_3 11 rfl rfl)
theorem dX6_status_110 : decode cX6_status 110 = .ok (.ireturn, 1) := dk_172 (dk_at dksX6_status_3 14 rfl rfl)
theorem dX6_status_111 : decode cX6_status 111 = .ok (.aload_n 0, 1) := dk_42 (dk_at dksX6_status_3 15 rfl rfl)
theorem dX6_status_112 : decode cX6_status 112 = .ok (.getfield 211, 3) := dk_180 0 211 (dk_at dksX6_status_3 16 rfl rfl)
theorem dX6_status_115 : decode cX6_status 115 = .ok (.ireturn, 1) := dk_172 (dk_at dksX6_status_3 19 rfl rfl)
theorem dX6_status_116 : decode cX6_status 116 = .ok (.aload_n 0, 1) := dk_42 (dk_at dksX6_status_3 20 rfl rfl)
theorem dX6_status_117 : decode cX6_status 117 = .ok (.getfield 22, 3) := dk_180 0 22 (dk_at dksX6_status_3 21 rfl rfl)
theorem dX6_status_120 : decode cX6_status 120 = .ok (.ireturn, 1) := dk_172 (dk_at dksX6_status_4 0 rfl rfl)
theorem dX6_status_121 : decode cX6_status 121 = .ok (.aload_n 0, 1) := dk_42 (dk_at dksX6_status_4 1 rfl rfl)
theorem dX6_status_122 : decode cX6_status 122 = .ok (.getfield 346, 3) := dk_180 1 90 (dk_at dksX6_status_4 2 rfl rfl)
theorem dX6_status_125 : decode cX6_status 125 = .ok (.ireturn, 1) := dk_172 (dk_at dksX6_status_4 5 rfl rfl)
theorem dX6_status_126 : decode cX6_status 126 = .ok (.iconst (-1), 1) := dk_2 (dk_at dksX6_status_4 6 rfl rfl)
theorem dX6_status_127 : decode cX6_status 127 = .ok (.ireturn, 1) := dk_172 (dk_at dksX6_status_4 7 rfl rfl)
theorem q100 : (Jvm.Cond.initialized "InASackToTheRopeModel") ∈ lw_all := lw_g (lw_at lw_m1 7 rfl) rfl
theorem q1471 : (Jvm.Cond.instantiable "InASackToTheRopeModel" (59 : Nat)) ∈ lw_all := lw_g (lw_at lw_m6 178 rfl) rfl
theorem q1473 : (Jvm.Cond.instanceMethod ({ cls := "InASackToTheRopeModel", name := "<init>", desc := "()V" } : Jvm.MethodName)) ∈ lw_all := lw_g (lw_at lw_m6 180 rfl) rfl
theorem q1474 : (Jvm.Cond.code ({ cls := "InASackToTheRopeModel", name := "<init>", desc := "()V" } : Jvm.MethodName) prog_23_method_1_code (1 : Nat) (Option.none : Option Jvm.ClassFile.FieldType)) ∈ lw_all := lw_g (lw_at lw_m6 181 rfl) rfl
theorem q1475 : (Jvm.Cond.methodLink "InASackToTheRopeModel" (1 : Nat) ({ cls := "java/lang/Object", name := "<init>", desc := "()V" } : Jvm.MethodName)) ∈ lw_all := lw_g (lw_at lw_m6 182 rfl) rfl
theorem q1476 : (Jvm.Cond.fieldLink "InASackToTheRopeModel" (117 : Nat) "InASackToTheRopeModel" "many" "I") ∈ lw_all := lw_g (lw_at lw_m6 183 rfl) rfl
theorem q1477 : (Jvm.Cond.fieldLink "InASackToTheRopeModel" (120 : Nat) "InASackToTheRopeModel" "sacks" "I") ∈ lw_all := lw_g (lw_at lw_m6 184 rfl) rfl
theorem q1478 : (Jvm.Cond.fieldLink "InASackToTheRopeModel" (7 : Nat) "InASackToTheRopeModel" "way" "I") ∈ lw_all := lw_g (lw_at lw_m6 185 rfl) rfl
theorem q1479 : (Jvm.Cond.fieldLink "InASackToTheRopeModel" (13 : Nat) "InASackToTheRopeModel" "up" "I") ∈ lw_all := lw_g (lw_at lw_m6 186 rfl) rfl
theorem q1480 : (Jvm.Cond.fieldLink "InASackToTheRopeModel" (16 : Nat) "InASackToTheRopeModel" "rope" "I") ∈ lw_all := lw_g (lw_at lw_m6 187 rfl) rfl
theorem q1481 : (Jvm.Cond.fieldLink "InASackToTheRopeModel" (19 : Nat) "InASackToTheRopeModel" "wind" "I") ∈ lw_all := lw_g (lw_at lw_m6 188 rfl) rfl
theorem q1482 : (Jvm.Cond.fieldLink "InASackToTheRopeModel" (170 : Nat) "InASackToTheRopeModel" "rolls" "I") ∈ lw_all := lw_g (lw_at lw_m6 189 rfl) rfl
theorem q1483 : (Jvm.Cond.fieldLink "InASackToTheRopeModel" (211 : Nat) "InASackToTheRopeModel" "races" "I") ∈ lw_all := lw_g (lw_at lw_m6 190 rfl) rfl
theorem q1484 : (Jvm.Cond.fieldLink "InASackToTheRopeModel" (22 : Nat) "InASackToTheRopeModel" "seed" "I") ∈ lw_all := lw_g (lw_at lw_m6 191 rfl) rfl
theorem q1485 : (Jvm.Cond.fieldLink "InASackToTheRopeModel" (25 : Nat) "InASackToTheRopeModel" "fault" "I") ∈ lw_all := lw_g (lw_at lw_m6 192 rfl) rfl
theorem q1486 : (Jvm.Cond.fieldLink "InASackToTheRopeModel" (28 : Nat) "InASackToTheRopeModel" "refused" "[I") ∈ lw_all := lw_g (lw_at lw_m6 193 rfl) rfl
theorem q1487 : (Jvm.Cond.fieldLink "InASackToTheRopeModel" (32 : Nat) "InASackToTheRopeModel" "kind" "[I") ∈ lw_all := lw_g (lw_at lw_m6 194 rfl) rfl
theorem q1488 : (Jvm.Cond.fieldLink "InASackToTheRopeModel" (35 : Nat) "InASackToTheRopeModel" "part" "[I") ∈ lw_all := lw_g (lw_at lw_m6 195 rfl) rfl
theorem q1489 : (Jvm.Cond.fieldLink "InASackToTheRopeModel" (38 : Nat) "InASackToTheRopeModel" "legs" "[I") ∈ lw_all := lw_g (lw_at lw_m6 196 rfl) rfl
theorem q1490 : (Jvm.Cond.fieldLink "InASackToTheRopeModel" (41 : Nat) "InASackToTheRopeModel" "sack" "[I") ∈ lw_all := lw_g (lw_at lw_m6 197 rfl) rfl
theorem q1491 : (Jvm.Cond.fieldLink "InASackToTheRopeModel" (44 : Nat) "InASackToTheRopeModel" "ahead" "[I") ∈ lw_all := lw_g (lw_at lw_m6 198 rfl) rfl
theorem q1492 : (Jvm.Cond.fieldLink "InASackToTheRopeModel" (47 : Nat) "InASackToTheRopeModel" "won" "[I") ∈ lw_all := lw_g (lw_at lw_m6 199 rfl) rfl
theorem q1493 : (Jvm.Cond.fieldLink "InASackToTheRopeModel" (50 : Nat) "InASackToTheRopeModel" "length" "[I") ∈ lw_all := lw_g (lw_at lw_m6 200 rfl) rfl
theorem q1494 : (Jvm.Cond.fieldLink "InASackToTheRopeModel" (53 : Nat) "InASackToTheRopeModel" "holes" "[I") ∈ lw_all := lw_g (lw_at lw_m6 201 rfl) rfl
theorem q1495 : (Jvm.Cond.fieldLink "InASackToTheRopeModel" (56 : Nat) "InASackToTheRopeModel" "held" "[I") ∈ lw_all := lw_g (lw_at lw_m6 202 rfl) rfl
theorem q1496 : (Jvm.Cond.fieldLink "InASackToTheRopeModel" (59 : Nat) "InASackToTheRopeModel" "sort" "[I") ∈ lw_all := lw_g (lw_at lw_m6 203 rfl) rfl
theorem q1497 : (Jvm.Cond.fieldLink "InASackToTheRopeModel" (62 : Nat) "InASackToTheRopeModel" "size" "[I") ∈ lw_all := lw_g (lw_at lw_m6 204 rfl) rfl
theorem q1498 : (Jvm.Cond.fieldLink "InASackToTheRopeModel" (65 : Nat) "InASackToTheRopeModel" "shown" "[I") ∈ lw_all := lw_g (lw_at lw_m6 205 rfl) rfl
theorem q1499 : (Jvm.Cond.fieldLink "InASackToTheRopeModel" (68 : Nat) "InASackToTheRopeModel" "cells" "[J") ∈ lw_all := lw_g (lw_at lw_m6 206 rfl) rfl
theorem q1500 : (Jvm.Cond.fieldLink "InASackToTheRopeModel" (72 : Nat) "InASackToTheRopeModel" "carried" "[J") ∈ lw_all := lw_g (lw_at lw_m6 207 rfl) rfl
theorem q1501 : (Jvm.Cond.fieldLink "InASackToTheRopeModel" (75 : Nat) "InASackToTheRopeModel" "words" "[I") ∈ lw_all := lw_g (lw_at lw_m6 208 rfl) rfl
theorem q1502 : (Jvm.Cond.fieldLink "InASackToTheRopeModel" (78 : Nat) "InASackToTheRopeModel" "numbers" "[I") ∈ lw_all := lw_g (lw_at lw_m6 209 rfl) rfl
theorem q1503 : (Jvm.Cond.fieldLink "InASackToTheRopeModel" (81 : Nat) "InASackToTheRopeModel" "tell" "[I") ∈ lw_all := lw_g (lw_at lw_m6 210 rfl) rfl
theorem q1504 : (Jvm.Cond.fieldLink "InASackToTheRopeModel" (182 : Nat) "InASackToTheRopeModel" "base" "I") ∈ lw_all := lw_g (lw_at lw_m6 211 rfl) rfl
theorem q1505 : (Jvm.Cond.fieldLink "InASackToTheRopeModel" (176 : Nat) "InASackToTheRopeModel" "at" "I") ∈ lw_all := lw_g (lw_at lw_m6 212 rfl) rfl
theorem q1506 : (Jvm.Cond.fieldLink "InASackToTheRopeModel" (179 : Nat) "InASackToTheRopeModel" "end" "I") ∈ lw_all := lw_g (lw_at lw_m6 213 rfl) rfl
theorem q1507 : (Jvm.Cond.fieldLink "InASackToTheRopeModel" (185 : Nat) "InASackToTheRopeModel" "number" "I") ∈ lw_all := lw_g (lw_at lw_m6 214 rfl) rfl
theorem q1508 : (Jvm.Cond.fieldLink "InASackToTheRopeModel" (173 : Nat) "InASackToTheRopeModel" "wrongAt" "I") ∈ lw_all := lw_g (lw_at lw_m6 215 rfl) rfl
theorem q1509 : (Jvm.Cond.fieldLink "InASackToTheRopeModel" (84 : Nat) "InASackToTheRopeModel" "was" "[I") ∈ lw_all := lw_g (lw_at lw_m6 216 rfl) rfl
theorem q1510 : (Jvm.Cond.fieldLink "InASackToTheRopeModel" (87 : Nat) "InASackToTheRopeModel" "kept" "[I") ∈ lw_all := lw_g (lw_at lw_m6 217 rfl) rfl
theorem q1511 : (Jvm.Cond.fieldLink "InASackToTheRopeModel" (224 : Nat) "InASackToTheRopeModel" "hopKind" "I") ∈ lw_all := lw_g (lw_at lw_m6 218 rfl) rfl
theorem q1512 : (Jvm.Cond.fieldLink "InASackToTheRopeModel" (227 : Nat) "InASackToTheRopeModel" "hopPart" "I") ∈ lw_all := lw_g (lw_at lw_m6 219 rfl) rfl
theorem q1513 : (Jvm.Cond.fieldLink "InASackToTheRopeModel" (230 : Nat) "InASackToTheRopeModel" "hopLegs" "I") ∈ lw_all := lw_g (lw_at lw_m6 220 rfl) rfl
theorem q1514 : (Jvm.Cond.fieldLink "InASackToTheRopeModel" (245 : Nat) "InASackToTheRopeModel" "hopSlack" "I") ∈ lw_all := lw_g (lw_at lw_m6 221 rfl) rfl
theorem q1515 : (Jvm.Cond.fieldLink "InASackToTheRopeModel" (248 : Nat) "InASackToTheRopeModel" "hopHoles" "I") ∈ lw_all := lw_g (lw_at lw_m6 222 rfl) rfl
theorem q1516 : (Jvm.Cond.fieldLink "InASackToTheRopeModel" (233 : Nat) "InASackToTheRopeModel" "hopAhead" "I") ∈ lw_all := lw_g (lw_at lw_m6 223 rfl) rfl
theorem q1517 : (Jvm.Cond.fieldLink "InASackToTheRopeModel" (236 : Nat) "InASackToTheRopeModel" "hopRolls" "I") ∈ lw_all := lw_g (lw_at lw_m6 224 rfl) rfl
theorem q1518 : (Jvm.Cond.fieldLink "InASackToTheRopeModel" (257 : Nat) "InASackToTheRopeModel" "place" "I") ∈ lw_all := lw_g (lw_at lw_m6 225 rfl) rfl
theorem q1519 : (Jvm.Cond.fieldLink "InASackToTheRopeModel" (254 : Nat) "InASackToTheRopeModel" "breath" "I") ∈ lw_all := lw_g (lw_at lw_m6 226 rfl) rfl
theorem q1520 : (Jvm.Cond.fieldLink "InASackToTheRopeModel" (260 : Nat) "InASackToTheRopeModel" "wobble" "I") ∈ lw_all := lw_g (lw_at lw_m6 227 rfl) rfl
theorem q1521 : (Jvm.Cond.fieldLink "InASackToTheRopeModel" (263 : Nat) "InASackToTheRopeModel" "down" "I") ∈ lw_all := lw_g (lw_at lw_m6 228 rfl) rfl
theorem q1522 : (Jvm.Cond.fieldLink "InASackToTheRopeModel" (266 : Nat) "InASackToTheRopeModel" "fell" "I") ∈ lw_all := lw_g (lw_at lw_m6 229 rfl) rfl
theorem q1523 : (Jvm.Cond.fieldLink "InASackToTheRopeModel" (90 : Nat) "InASackToTheRopeModel" "tables" "[I") ∈ lw_all := lw_g (lw_at lw_m6 230 rfl) rfl
theorem q1524 : (Jvm.Cond.fieldLink "InASackToTheRopeModel" (93 : Nat) "InASackToTheRopeModel" "gave" "[I") ∈ lw_all := lw_g (lw_at lw_m6 231 rfl) rfl
theorem q1525 : (Jvm.Cond.fieldLink "InASackToTheRopeModel" (96 : Nat) "InASackToTheRopeModel" "best" "[I") ∈ lw_all := lw_g (lw_at lw_m6 232 rfl) rfl
theorem q1526 : (Jvm.Cond.fieldLink "InASackToTheRopeModel" (314 : Nat) "InASackToTheRopeModel" "bestIs" "I") ∈ lw_all := lw_g (lw_at lw_m6 233 rfl) rfl
theorem q1527 : (Jvm.Cond.fieldLink "InASackToTheRopeModel" (99 : Nat) "InASackToTheRopeModel" "on" "[I") ∈ lw_all := lw_g (lw_at lw_m6 234 rfl) rfl
theorem q1528 : (Jvm.Cond.fieldLink "InASackToTheRopeModel" (102 : Nat) "InASackToTheRopeModel" "places" "[I") ∈ lw_all := lw_g (lw_at lw_m6 235 rfl) rfl
theorem q1529 : (Jvm.Cond.fieldLink "InASackToTheRopeModel" (105 : Nat) "InASackToTheRopeModel" "breaths" "[I") ∈ lw_all := lw_g (lw_at lw_m6 236 rfl) rfl
theorem q1530 : (Jvm.Cond.fieldLink "InASackToTheRopeModel" (108 : Nat) "InASackToTheRopeModel" "downs" "[I") ∈ lw_all := lw_g (lw_at lw_m6 237 rfl) rfl
theorem q1531 : (Jvm.Cond.fieldLink "InASackToTheRopeModel" (111 : Nat) "InASackToTheRopeModel" "ins" "[I") ∈ lw_all := lw_g (lw_at lw_m6 238 rfl) rfl
theorem q1532 : (Jvm.Cond.fieldLink "InASackToTheRopeModel" (114 : Nat) "InASackToTheRopeModel" "trace" "[I") ∈ lw_all := lw_g (lw_at lw_m6 239 rfl) rfl
theorem q1533 : (Jvm.Cond.fieldLink "InASackToTheRopeModel" (346 : Nat) "InASackToTheRopeModel" "ran" "I") ∈ lw_all := lw_g (lw_at lw_m7 0 rfl) rfl
theorem q1534 : (Jvm.Cond.fieldLink "InASackToTheRopeModel" (361 : Nat) "InASackToTheRopeModel" "isKept" "Z") ∈ lw_all := lw_g (lw_at lw_m7 1 rfl) rfl
theorem q1535 : (Jvm.Cond.lays "InASackToTheRopeModel" "InASackToTheRopeModel" "many" "I") ∈ lw_all := lw_g (lw_at lw_m7 2 rfl) rfl
theorem q1536 : (Jvm.Cond.soleField "InASackToTheRopeModel" "many") ∈ lw_all := lw_g (lw_at lw_m7 3 rfl) rfl
theorem q1537 : (Jvm.Cond.lays "InASackToTheRopeModel" "InASackToTheRopeModel" "sacks" "I") ∈ lw_all := lw_g (lw_at lw_m7 4 rfl) rfl
theorem q1538 : (Jvm.Cond.soleField "InASackToTheRopeModel" "sacks") ∈ lw_all := lw_g (lw_at lw_m7 5 rfl) rfl
theorem q1539 : (Jvm.Cond.lays "InASackToTheRopeModel" "InASackToTheRopeModel" "way" "I") ∈ lw_all := lw_g (lw_at lw_m7 6 rfl) rfl
theorem q1540 : (Jvm.Cond.soleField "InASackToTheRopeModel" "way") ∈ lw_all := lw_g (lw_at lw_m7 7 rfl) rfl
theorem q1541 : (Jvm.Cond.lays "InASackToTheRopeModel" "InASackToTheRopeModel" "up" "I") ∈ lw_all := lw_g (lw_at lw_m7 8 rfl) rfl
theorem q1542 : (Jvm.Cond.soleField "InASackToTheRopeModel" "up") ∈ lw_all := lw_g (lw_at lw_m7 9 rfl) rfl
theorem q1543 : (Jvm.Cond.lays "InASackToTheRopeModel" "InASackToTheRopeModel" "rope" "I") ∈ lw_all := lw_g (lw_at lw_m7 10 rfl) rfl
theorem q1544 : (Jvm.Cond.soleField "InASackToTheRopeModel" "rope") ∈ lw_all := lw_g (lw_at lw_m7 11 rfl) rfl
theorem q1545 : (Jvm.Cond.lays "InASackToTheRopeModel" "InASackToTheRopeModel" "wind" "I") ∈ lw_all := lw_g (lw_at lw_m7 12 rfl) rfl
theorem q1546 : (Jvm.Cond.soleField "InASackToTheRopeModel" "wind") ∈ lw_all := lw_g (lw_at lw_m7 13 rfl) rfl
theorem q1547 : (Jvm.Cond.lays "InASackToTheRopeModel" "InASackToTheRopeModel" "rolls" "I") ∈ lw_all := lw_g (lw_at lw_m7 14 rfl) rfl
theorem q1548 : (Jvm.Cond.soleField "InASackToTheRopeModel" "rolls") ∈ lw_all := lw_g (lw_at lw_m7 15 rfl) rfl
theorem q1549 : (Jvm.Cond.lays "InASackToTheRopeModel" "InASackToTheRopeModel" "races" "I") ∈ lw_all := lw_g (lw_at lw_m7 16 rfl) rfl
theorem q1550 : (Jvm.Cond.soleField "InASackToTheRopeModel" "races") ∈ lw_all := lw_g (lw_at lw_m7 17 rfl) rfl
theorem q1551 : (Jvm.Cond.lays "InASackToTheRopeModel" "InASackToTheRopeModel" "seed" "I") ∈ lw_all := lw_g (lw_at lw_m7 18 rfl) rfl
theorem q1552 : (Jvm.Cond.soleField "InASackToTheRopeModel" "seed") ∈ lw_all := lw_g (lw_at lw_m7 19 rfl) rfl
theorem q1553 : (Jvm.Cond.lays "InASackToTheRopeModel" "InASackToTheRopeModel" "fault" "I") ∈ lw_all := lw_g (lw_at lw_m7 20 rfl) rfl
theorem q1554 : (Jvm.Cond.soleField "InASackToTheRopeModel" "fault") ∈ lw_all := lw_g (lw_at lw_m7 21 rfl) rfl
theorem q1555 : (Jvm.Cond.laysFinal "InASackToTheRopeModel" "InASackToTheRopeModel" "refused" "[I") ∈ lw_all := lw_g (lw_at lw_m7 22 rfl) rfl
theorem q1556 : (Jvm.Cond.soleField "InASackToTheRopeModel" "refused") ∈ lw_all := lw_g (lw_at lw_m7 23 rfl) rfl
theorem q1557 : (Jvm.Cond.laysFinal "InASackToTheRopeModel" "InASackToTheRopeModel" "kind" "[I") ∈ lw_all := lw_g (lw_at lw_m7 24 rfl) rfl
theorem q1558 : (Jvm.Cond.soleField "InASackToTheRopeModel" "kind") ∈ lw_all := lw_g (lw_at lw_m7 25 rfl) rfl
theorem q1559 : (Jvm.Cond.laysFinal "InASackToTheRopeModel" "InASackToTheRopeModel" "part" "[I") ∈ lw_all := lw_g (lw_at lw_m7 26 rfl) rfl
theorem q1560 : (Jvm.Cond.soleField "InASackToTheRopeModel" "part") ∈ lw_all := lw_g (lw_at lw_m7 27 rfl) rfl
theorem q1561 : (Jvm.Cond.laysFinal "InASackToTheRopeModel" "InASackToTheRopeModel" "legs" "[I") ∈ lw_all := lw_g (lw_at lw_m7 28 rfl) rfl
theorem q1562 : (Jvm.Cond.soleField "InASackToTheRopeModel" "legs") ∈ lw_all := lw_g (lw_at lw_m7 29 rfl) rfl
theorem q1563 : (Jvm.Cond.laysFinal "InASackToTheRopeModel" "InASackToTheRopeModel" "sack" "[I") ∈ lw_all := lw_g (lw_at lw_m7 30 rfl) rfl
theorem q1564 : (Jvm.Cond.soleField "InASackToTheRopeModel" "sack") ∈ lw_all := lw_g (lw_at lw_m7 31 rfl) rfl
theorem q1565 : (Jvm.Cond.laysFinal "InASackToTheRopeModel" "InASackToTheRopeModel" "ahead" "[I") ∈ lw_all := lw_g (lw_at lw_m7 32 rfl) rfl
theorem q1566 : (Jvm.Cond.soleField "InASackToTheRopeModel" "ahead") ∈ lw_all := lw_g (lw_at lw_m7 33 rfl) rfl
theorem q1567 : (Jvm.Cond.laysFinal "InASackToTheRopeModel" "InASackToTheRopeModel" "won" "[I") ∈ lw_all := lw_g (lw_at lw_m7 34 rfl) rfl
theorem q1568 : (Jvm.Cond.soleField "InASackToTheRopeModel" "won") ∈ lw_all := lw_g (lw_at lw_m7 35 rfl) rfl
theorem q1569 : (Jvm.Cond.laysFinal "InASackToTheRopeModel" "InASackToTheRopeModel" "length" "[I") ∈ lw_all := lw_g (lw_at lw_m7 36 rfl) rfl
theorem q1570 : (Jvm.Cond.soleField "InASackToTheRopeModel" "length") ∈ lw_all := lw_g (lw_at lw_m7 37 rfl) rfl
theorem q1571 : (Jvm.Cond.laysFinal "InASackToTheRopeModel" "InASackToTheRopeModel" "holes" "[I") ∈ lw_all := lw_g (lw_at lw_m7 38 rfl) rfl
theorem q1572 : (Jvm.Cond.soleField "InASackToTheRopeModel" "holes") ∈ lw_all := lw_g (lw_at lw_m7 39 rfl) rfl
theorem q1573 : (Jvm.Cond.laysFinal "InASackToTheRopeModel" "InASackToTheRopeModel" "held" "[I") ∈ lw_all := lw_g (lw_at lw_m7 40 rfl) rfl
theorem q1574 : (Jvm.Cond.soleField "InASackToTheRopeModel" "held") ∈ lw_all := lw_g (lw_at lw_m7 41 rfl) rfl
theorem q1575 : (Jvm.Cond.laysFinal "InASackToTheRopeModel" "InASackToTheRopeModel" "sort" "[I") ∈ lw_all := lw_g (lw_at lw_m7 42 rfl) rfl
theorem q1576 : (Jvm.Cond.soleField "InASackToTheRopeModel" "sort") ∈ lw_all := lw_g (lw_at lw_m7 43 rfl) rfl
theorem q1577 : (Jvm.Cond.laysFinal "InASackToTheRopeModel" "InASackToTheRopeModel" "size" "[I") ∈ lw_all := lw_g (lw_at lw_m7 44 rfl) rfl
theorem q1578 : (Jvm.Cond.soleField "InASackToTheRopeModel" "size") ∈ lw_all := lw_g (lw_at lw_m7 45 rfl) rfl
theorem q1579 : (Jvm.Cond.laysFinal "InASackToTheRopeModel" "InASackToTheRopeModel" "shown" "[I") ∈ lw_all := lw_g (lw_at lw_m7 46 rfl) rfl
theorem q1580 : (Jvm.Cond.soleField "InASackToTheRopeModel" "shown") ∈ lw_all := lw_g (lw_at lw_m7 47 rfl) rfl
theorem q1581 : (Jvm.Cond.laysFinal "InASackToTheRopeModel" "InASackToTheRopeModel" "cells" "[J") ∈ lw_all := lw_g (lw_at lw_m7 48 rfl) rfl
theorem q1582 : (Jvm.Cond.soleField "InASackToTheRopeModel" "cells") ∈ lw_all := lw_g (lw_at lw_m7 49 rfl) rfl
theorem q1583 : (Jvm.Cond.laysFinal "InASackToTheRopeModel" "InASackToTheRopeModel" "carried" "[J") ∈ lw_all := lw_g (lw_at lw_m7 50 rfl) rfl
theorem q1584 : (Jvm.Cond.soleField "InASackToTheRopeModel" "carried") ∈ lw_all := lw_g (lw_at lw_m7 51 rfl) rfl
theorem q1585 : (Jvm.Cond.laysFinal "InASackToTheRopeModel" "InASackToTheRopeModel" "words" "[I") ∈ lw_all := lw_g (lw_at lw_m7 52 rfl) rfl
theorem q1586 : (Jvm.Cond.soleField "InASackToTheRopeModel" "words") ∈ lw_all := lw_g (lw_at lw_m7 53 rfl) rfl
theorem q1587 : (Jvm.Cond.laysFinal "InASackToTheRopeModel" "InASackToTheRopeModel" "numbers" "[I") ∈ lw_all := lw_g (lw_at lw_m7 54 rfl) rfl
theorem q1588 : (Jvm.Cond.soleField "InASackToTheRopeModel" "numbers") ∈ lw_all := lw_g (lw_at lw_m7 55 rfl) rfl
theorem q1589 : (Jvm.Cond.laysFinal "InASackToTheRopeModel" "InASackToTheRopeModel" "tell" "[I") ∈ lw_all := lw_g (lw_at lw_m7 56 rfl) rfl
theorem q1590 : (Jvm.Cond.soleField "InASackToTheRopeModel" "tell") ∈ lw_all := lw_g (lw_at lw_m7 57 rfl) rfl
theorem q1591 : (Jvm.Cond.lays "InASackToTheRopeModel" "InASackToTheRopeModel" "base" "I") ∈ lw_all := lw_g (lw_at lw_m7 58 rfl) rfl
theorem q1592 : (Jvm.Cond.soleField "InASackToTheRopeModel" "base") ∈ lw_all := lw_g (lw_at lw_m7 59 rfl) rfl
theorem q1593 : (Jvm.Cond.lays "InASackToTheRopeModel" "InASackToTheRopeModel" "at" "I") ∈ lw_all := lw_g (lw_at lw_m7 60 rfl) rfl
theorem q1594 : (Jvm.Cond.soleField "InASackToTheRopeModel" "at") ∈ lw_all := lw_g (lw_at lw_m7 61 rfl) rfl
theorem q1595 : (Jvm.Cond.lays "InASackToTheRopeModel" "InASackToTheRopeModel" "end" "I") ∈ lw_all := lw_g (lw_at lw_m7 62 rfl) rfl
theorem q1596 : (Jvm.Cond.soleField "InASackToTheRopeModel" "end") ∈ lw_all := lw_g (lw_at lw_m7 63 rfl) rfl
theorem q1597 : (Jvm.Cond.lays "InASackToTheRopeModel" "InASackToTheRopeModel" "number" "I") ∈ lw_all := lw_g (lw_at lw_m7 64 rfl) rfl
theorem q1598 : (Jvm.Cond.soleField "InASackToTheRopeModel" "number") ∈ lw_all := lw_g (lw_at lw_m7 65 rfl) rfl
theorem q1599 : (Jvm.Cond.lays "InASackToTheRopeModel" "InASackToTheRopeModel" "wrongAt" "I") ∈ lw_all := lw_g (lw_at lw_m7 66 rfl) rfl
theorem q1600 : (Jvm.Cond.soleField "InASackToTheRopeModel" "wrongAt") ∈ lw_all := lw_g (lw_at lw_m7 67 rfl) rfl
theorem q1601 : (Jvm.Cond.laysFinal "InASackToTheRopeModel" "InASackToTheRopeModel" "was" "[I") ∈ lw_all := lw_g (lw_at lw_m7 68 rfl) rfl
theorem q1602 : (Jvm.Cond.soleField "InASackToTheRopeModel" "was") ∈ lw_all := lw_g (lw_at lw_m7 69 rfl) rfl
theorem q1603 : (Jvm.Cond.laysFinal "InASackToTheRopeModel" "InASackToTheRopeModel" "kept" "[I") ∈ lw_all := lw_g (lw_at lw_m7 70 rfl) rfl
theorem q1604 : (Jvm.Cond.soleField "InASackToTheRopeModel" "kept") ∈ lw_all := lw_g (lw_at lw_m7 71 rfl) rfl
theorem q1605 : (Jvm.Cond.lays "InASackToTheRopeModel" "InASackToTheRopeModel" "hopKind" "I") ∈ lw_all := lw_g (lw_at lw_m7 72 rfl) rfl
theorem q1606 : (Jvm.Cond.soleField "InASackToTheRopeModel" "hopKind") ∈ lw_all := lw_g (lw_at lw_m7 73 rfl) rfl
theorem q1607 : (Jvm.Cond.lays "InASackToTheRopeModel" "InASackToTheRopeModel" "hopPart" "I") ∈ lw_all := lw_g (lw_at lw_m7 74 rfl) rfl
theorem q1608 : (Jvm.Cond.soleField "InASackToTheRopeModel" "hopPart") ∈ lw_all := lw_g (lw_at lw_m7 75 rfl) rfl
theorem q1609 : (Jvm.Cond.lays "InASackToTheRopeModel" "InASackToTheRopeModel" "hopLegs" "I") ∈ lw_all := lw_g (lw_at lw_m7 76 rfl) rfl
theorem q1610 : (Jvm.Cond.soleField "InASackToTheRopeModel" "hopLegs") ∈ lw_all := lw_g (lw_at lw_m7 77 rfl) rfl
theorem q1611 : (Jvm.Cond.lays "InASackToTheRopeModel" "InASackToTheRopeModel" "hopSlack" "I") ∈ lw_all := lw_g (lw_at lw_m7 78 rfl) rfl
theorem q1612 : (Jvm.Cond.soleField "InASackToTheRopeModel" "hopSlack") ∈ lw_all := lw_g (lw_at lw_m7 79 rfl) rfl
theorem q1613 : (Jvm.Cond.lays "InASackToTheRopeModel" "InASackToTheRopeModel" "hopHoles" "I") ∈ lw_all := lw_g (lw_at lw_m7 80 rfl) rfl
theorem q1614 : (Jvm.Cond.soleField "InASackToTheRopeModel" "hopHoles") ∈ lw_all := lw_g (lw_at lw_m7 81 rfl) rfl
theorem q1615 : (Jvm.Cond.lays "InASackToTheRopeModel" "InASackToTheRopeModel" "hopAhead" "I") ∈ lw_all := lw_g (lw_at lw_m7 82 rfl) rfl
theorem q1616 : (Jvm.Cond.soleField "InASackToTheRopeModel" "hopAhead") ∈ lw_all := lw_g (lw_at lw_m7 83 rfl) rfl
theorem q1617 : (Jvm.Cond.lays "InASackToTheRopeModel" "InASackToTheRopeModel" "hopRolls" "I") ∈ lw_all := lw_g (lw_at lw_m7 84 rfl) rfl
theorem q1618 : (Jvm.Cond.soleField "InASackToTheRopeModel" "hopRolls") ∈ lw_all := lw_g (lw_at lw_m7 85 rfl) rfl
theorem q1619 : (Jvm.Cond.lays "InASackToTheRopeModel" "InASackToTheRopeModel" "place" "I") ∈ lw_all := lw_g (lw_at lw_m7 86 rfl) rfl
theorem q1620 : (Jvm.Cond.soleField "InASackToTheRopeModel" "place") ∈ lw_all := lw_g (lw_at lw_m7 87 rfl) rfl
theorem q1621 : (Jvm.Cond.lays "InASackToTheRopeModel" "InASackToTheRopeModel" "breath" "I") ∈ lw_all := lw_g (lw_at lw_m7 88 rfl) rfl
theorem q1622 : (Jvm.Cond.soleField "InASackToTheRopeModel" "breath") ∈ lw_all := lw_g (lw_at lw_m7 89 rfl) rfl
theorem q1623 : (Jvm.Cond.lays "InASackToTheRopeModel" "InASackToTheRopeModel" "wobble" "I") ∈ lw_all := lw_g (lw_at lw_m7 90 rfl) rfl
theorem q1624 : (Jvm.Cond.soleField "InASackToTheRopeModel" "wobble") ∈ lw_all := lw_g (lw_at lw_m7 91 rfl) rfl
theorem q1625 : (Jvm.Cond.lays "InASackToTheRopeModel" "InASackToTheRopeModel" "down" "I") ∈ lw_all := lw_g (lw_at lw_m7 92 rfl) rfl
theorem q1626 : (Jvm.Cond.soleField "InASackToTheRopeModel" "down") ∈ lw_all := lw_g (lw_at lw_m7 93 rfl) rfl
theorem q1627 : (Jvm.Cond.lays "InASackToTheRopeModel" "InASackToTheRopeModel" "fell" "I") ∈ lw_all := lw_g (lw_at lw_m7 94 rfl) rfl
theorem q1628 : (Jvm.Cond.soleField "InASackToTheRopeModel" "fell") ∈ lw_all := lw_g (lw_at lw_m7 95 rfl) rfl
theorem q1629 : (Jvm.Cond.laysFinal "InASackToTheRopeModel" "InASackToTheRopeModel" "tables" "[I") ∈ lw_all := lw_g (lw_at lw_m7 96 rfl) rfl
theorem q1630 : (Jvm.Cond.soleField "InASackToTheRopeModel" "tables") ∈ lw_all := lw_g (lw_at lw_m7 97 rfl) rfl
theorem q1631 : (Jvm.Cond.laysFinal "InASackToTheRopeModel" "InASackToTheRopeModel" "gave" "[I") ∈ lw_all := lw_g (lw_at lw_m7 98 rfl) rfl
theorem q1632 : (Jvm.Cond.soleField "InASackToTheRopeModel" "gave") ∈ lw_all := lw_g (lw_at lw_m7 99 rfl) rfl
theorem q1633 : (Jvm.Cond.laysFinal "InASackToTheRopeModel" "InASackToTheRopeModel" "best" "[I") ∈ lw_all := lw_g (lw_at lw_m7 100 rfl) rfl
theorem q1634 : (Jvm.Cond.soleField "InASackToTheRopeModel" "best") ∈ lw_all := lw_g (lw_at lw_m7 101 rfl) rfl
theorem q1635 : (Jvm.Cond.lays "InASackToTheRopeModel" "InASackToTheRopeModel" "bestIs" "I") ∈ lw_all := lw_g (lw_at lw_m7 102 rfl) rfl
theorem q1636 : (Jvm.Cond.soleField "InASackToTheRopeModel" "bestIs") ∈ lw_all := lw_g (lw_at lw_m7 103 rfl) rfl
theorem q1637 : (Jvm.Cond.laysFinal "InASackToTheRopeModel" "InASackToTheRopeModel" "on" "[I") ∈ lw_all := lw_g (lw_at lw_m7 104 rfl) rfl
theorem q1638 : (Jvm.Cond.soleField "InASackToTheRopeModel" "on") ∈ lw_all := lw_g (lw_at lw_m7 105 rfl) rfl
theorem q1639 : (Jvm.Cond.laysFinal "InASackToTheRopeModel" "InASackToTheRopeModel" "places" "[I") ∈ lw_all := lw_g (lw_at lw_m7 106 rfl) rfl
theorem q1640 : (Jvm.Cond.soleField "InASackToTheRopeModel" "places") ∈ lw_all := lw_g (lw_at lw_m7 107 rfl) rfl
theorem q1641 : (Jvm.Cond.laysFinal "InASackToTheRopeModel" "InASackToTheRopeModel" "breaths" "[I") ∈ lw_all := lw_g (lw_at lw_m7 108 rfl) rfl
theorem q1642 : (Jvm.Cond.soleField "InASackToTheRopeModel" "breaths") ∈ lw_all := lw_g (lw_at lw_m7 109 rfl) rfl
theorem q1643 : (Jvm.Cond.laysFinal "InASackToTheRopeModel" "InASackToTheRopeModel" "downs" "[I") ∈ lw_all := lw_g (lw_at lw_m7 110 rfl) rfl
theorem q1644 : (Jvm.Cond.soleField "InASackToTheRopeModel" "downs") ∈ lw_all := lw_g (lw_at lw_m7 111 rfl) rfl
theorem q1645 : (Jvm.Cond.laysFinal "InASackToTheRopeModel" "InASackToTheRopeModel" "ins" "[I") ∈ lw_all := lw_g (lw_at lw_m7 112 rfl) rfl
theorem q1646 : (Jvm.Cond.soleField "InASackToTheRopeModel" "ins") ∈ lw_all := lw_g (lw_at lw_m7 113 rfl) rfl
theorem q1647 : (Jvm.Cond.laysFinal "InASackToTheRopeModel" "InASackToTheRopeModel" "trace" "[I") ∈ lw_all := lw_g (lw_at lw_m7 114 rfl) rfl
theorem q1648 : (Jvm.Cond.soleField "InASackToTheRopeModel" "trace") ∈ lw_all := lw_g (lw_at lw_m7 115 rfl) rfl
theorem q1649 : (Jvm.Cond.lays "InASackToTheRopeModel" "InASackToTheRopeModel" "ran" "I") ∈ lw_all := lw_g (lw_at lw_m7 116 rfl) rfl
theorem q1650 : (Jvm.Cond.soleField "InASackToTheRopeModel" "ran") ∈ lw_all := lw_g (lw_at lw_m7 117 rfl) rfl
theorem q1651 : (Jvm.Cond.lays "InASackToTheRopeModel" "InASackToTheRopeModel" "isKept" "Z") ∈ lw_all := lw_g (lw_at lw_m7 118 rfl) rfl
theorem q1652 : (Jvm.Cond.soleField "InASackToTheRopeModel" "isKept") ∈ lw_all := lw_g (lw_at lw_m7 119 rfl) rfl
theorem q1653 : (Jvm.Cond.superclass "InASackToTheRopeModel" "java/lang/Object") ∈ lw_all := lw_g (lw_at lw_m7 120 rfl) rfl
theorem q1655 : (Jvm.Cond.instanceMethod ({ cls := "InASackToTheRopeModel", name := "row", desc := "(III)I" } : Jvm.MethodName)) ∈ lw_all := lw_g (lw_at lw_m7 122 rfl) rfl
theorem q1656 : (Jvm.Cond.selects "InASackToTheRopeModel" ({ cls := "InASackToTheRopeModel", name := "row", desc := "(III)I" } : Jvm.MethodName) ({ cls := "InASackToTheRopeModel", name := "row", desc := "(III)I" } : Jvm.MethodName)) ∈ lw_all := lw_g (lw_at lw_m7 123 rfl) rfl
theorem q1657 : (Jvm.Cond.code ({ cls := "InASackToTheRopeModel", name := "row", desc := "(III)I" } : Jvm.MethodName) prog_23_method_8_code (5 : Nat) (Option.some Jvm.ClassFile.FieldType.int)) ∈ lw_all := lw_g (lw_at lw_m7 124 rfl) rfl
theorem q1658 : (Jvm.Cond.methodLink "InASackToTheRopeModel" (123 : Nat) ({ cls := "InASackToTheRopeModel", name := "isShelf", desc := "(I)Z" } : Jvm.MethodName)) ∈ lw_all := lw_g (lw_at lw_m7 125 rfl) rfl
theorem q1659 : (Jvm.Cond.privateMethod ({ cls := "InASackToTheRopeModel", name := "isShelf", desc := "(I)Z" } : Jvm.MethodName)) ∈ lw_tbl := lw_at lw_m7 126 rfl
theorem q1660 : (Jvm.Cond.instanceMethod ({ cls := "InASackToTheRopeModel", name := "isShelf", desc := "(I)Z" } : Jvm.MethodName)) ∈ lw_all := lw_g (lw_at lw_m7 127 rfl) rfl
theorem q1661 : (Jvm.Cond.code ({ cls := "InASackToTheRopeModel", name := "isShelf", desc := "(I)Z" } : Jvm.MethodName) prog_23_method_4_code (2 : Nat) (Option.some Jvm.ClassFile.FieldType.boolean)) ∈ lw_all := lw_g (lw_at lw_m7 128 rfl) rfl
theorem q1662 : (Jvm.Cond.methodLink "InASackToTheRopeModel" (127 : Nat) ({ cls := "InASackToTheRopeModel", name := "no", desc := "(I)I" } : Jvm.MethodName)) ∈ lw_all := lw_g (lw_at lw_m7 129 rfl) rfl
theorem q1663 : (Jvm.Cond.privateMethod ({ cls := "InASackToTheRopeModel", name := "no", desc := "(I)I" } : Jvm.MethodName)) ∈ lw_tbl := lw_at lw_m7 130 rfl
theorem q1664 : (Jvm.Cond.instanceMethod ({ cls := "InASackToTheRopeModel", name := "no", desc := "(I)I" } : Jvm.MethodName)) ∈ lw_all := lw_g (lw_at lw_m7 131 rfl) rfl
theorem q1665 : (Jvm.Cond.code ({ cls := "InASackToTheRopeModel", name := "no", desc := "(I)I" } : Jvm.MethodName) prog_23_method_2_code (2 : Nat) (Option.some Jvm.ClassFile.FieldType.int)) ∈ lw_all := lw_g (lw_at lw_m7 132 rfl) rfl
theorem q1667 : (Jvm.Cond.instanceMethod ({ cls := "InASackToTheRopeModel", name := "set", desc := "(IIJ)I" } : Jvm.MethodName)) ∈ lw_all := lw_g (lw_at lw_m7 134 rfl) rfl
theorem q1668 : (Jvm.Cond.selects "InASackToTheRopeModel" ({ cls := "InASackToTheRopeModel", name := "set", desc := "(IIJ)I" } : Jvm.MethodName) ({ cls := "InASackToTheRopeModel", name := "set", desc := "(IIJ)I" } : Jvm.MethodName)) ∈ lw_all := lw_g (lw_at lw_m7 135 rfl) rfl
theorem q1669 : (Jvm.Cond.code ({ cls := "InASackToTheRopeModel", name := "set", desc := "(IIJ)I" } : Jvm.MethodName) prog_23_method_9_code (5 : Nat) (Option.some Jvm.ClassFile.FieldType.int)) ∈ lw_all := lw_g (lw_at lw_m7 136 rfl) rfl
theorem q1671 : (Jvm.Cond.instanceMethod ({ cls := "InASackToTheRopeModel", name := "copy", desc := "(IIIII)I" } : Jvm.MethodName)) ∈ lw_all := lw_g (lw_at lw_m7 138 rfl) rfl
theorem q1672 : (Jvm.Cond.selects "InASackToTheRopeModel" ({ cls := "InASackToTheRopeModel", name := "copy", desc := "(IIIII)I" } : Jvm.MethodName) ({ cls := "InASackToTheRopeModel", name := "copy", desc := "(IIIII)I" } : Jvm.MethodName)) ∈ lw_all := lw_g (lw_at lw_m7 139 rfl) rfl
theorem q1673 : (Jvm.Cond.code ({ cls := "InASackToTheRopeModel", name := "copy", desc := "(IIIII)I" } : Jvm.MethodName) prog_23_method_10_code (7 : Nat) (Option.some Jvm.ClassFile.FieldType.int)) ∈ lw_all := lw_g (lw_at lw_m7 140 rfl) rfl
theorem q1675 : (Jvm.Cond.instanceMethod ({ cls := "InASackToTheRopeModel", name := "element", desc := "(II)J" } : Jvm.MethodName)) ∈ lw_all := lw_g (lw_at lw_m7 142 rfl) rfl
theorem q1676 : (Jvm.Cond.selects "InASackToTheRopeModel" ({ cls := "InASackToTheRopeModel", name := "element", desc := "(II)J" } : Jvm.MethodName) ({ cls := "InASackToTheRopeModel", name := "element", desc := "(II)J" } : Jvm.MethodName)) ∈ lw_all := lw_g (lw_at lw_m7 143 rfl) rfl
theorem q1677 : (Jvm.Cond.code ({ cls := "InASackToTheRopeModel", name := "element", desc := "(II)J" } : Jvm.MethodName) prog_23_method_11_code (3 : Nat) (Option.some Jvm.ClassFile.FieldType.long)) ∈ lw_all := lw_g (lw_at lw_m7 144 rfl) rfl
theorem q1679 : (Jvm.Cond.instanceMethod ({ cls := "InASackToTheRopeModel", name := "show", desc := "(II)I" } : Jvm.MethodName)) ∈ lw_all := lw_g (lw_at lw_m7 146 rfl) rfl
theorem q1680 : (Jvm.Cond.selects "InASackToTheRopeModel" ({ cls := "InASackToTheRopeModel", name := "show", desc := "(II)I" } : Jvm.MethodName) ({ cls := "InASackToTheRopeModel", name := "show", desc := "(II)I" } : Jvm.MethodName)) ∈ lw_all := lw_g (lw_at lw_m7 147 rfl) rfl
theorem q1681 : (Jvm.Cond.code ({ cls := "InASackToTheRopeModel", name := "show", desc := "(II)I" } : Jvm.MethodName) prog_23_method_12_code (3 : Nat) (Option.some Jvm.ClassFile.FieldType.int)) ∈ lw_all := lw_g (lw_at lw_m7 148 rfl) rfl
theorem q1682 : (Jvm.Cond.methodLink "InASackToTheRopeModel" (131 : Nat) ({ cls := "InASackToTheRopeModel", name := "isChild", desc := "(I)Z" } : Jvm.MethodName)) ∈ lw_all := lw_g (lw_at lw_m7 149 rfl) rfl
theorem q1683 : (Jvm.Cond.privateMethod ({ cls := "InASackToTheRopeModel", name := "isChild", desc := "(I)Z" } : Jvm.MethodName)) ∈ lw_tbl := lw_at lw_m7 150 rfl
theorem q1684 : (Jvm.Cond.instanceMethod ({ cls := "InASackToTheRopeModel", name := "isChild", desc := "(I)Z" } : Jvm.MethodName)) ∈ lw_all := lw_g (lw_at lw_m7 151 rfl) rfl
theorem q1685 : (Jvm.Cond.code ({ cls := "InASackToTheRopeModel", name := "isChild", desc := "(I)Z" } : Jvm.MethodName) prog_23_method_5_code (2 : Nat) (Option.some Jvm.ClassFile.FieldType.boolean)) ∈ lw_all := lw_g (lw_at lw_m7 152 rfl) rfl
theorem q1687 : (Jvm.Cond.instanceMethod ({ cls := "InASackToTheRopeModel", name := "holds", desc := "(I)I" } : Jvm.MethodName)) ∈ lw_all := lw_g (lw_at lw_m7 154 rfl) rfl
theorem q1688 : (Jvm.Cond.selects "InASackToTheRopeModel" ({ cls := "InASackToTheRopeModel", name := "holds", desc := "(I)I" } : Jvm.MethodName) ({ cls := "InASackToTheRopeModel", name := "holds", desc := "(I)I" } : Jvm.MethodName)) ∈ lw_all := lw_g (lw_at lw_m7 155 rfl) rfl
theorem q1689 : (Jvm.Cond.code ({ cls := "InASackToTheRopeModel", name := "holds", desc := "(I)I" } : Jvm.MethodName) prog_23_method_13_code (2 : Nat) (Option.some Jvm.ClassFile.FieldType.int)) ∈ lw_all := lw_g (lw_at lw_m7 156 rfl) rfl
theorem q1691 : (Jvm.Cond.instanceMethod ({ cls := "InASackToTheRopeModel", name := "says", desc := "(II)I" } : Jvm.MethodName)) ∈ lw_all := lw_g (lw_at lw_m7 158 rfl) rfl
theorem q1692 : (Jvm.Cond.selects "InASackToTheRopeModel" ({ cls := "InASackToTheRopeModel", name := "says", desc := "(II)I" } : Jvm.MethodName) ({ cls := "InASackToTheRopeModel", name := "says", desc := "(II)I" } : Jvm.MethodName)) ∈ lw_all := lw_g (lw_at lw_m7 159 rfl) rfl
theorem q1693 : (Jvm.Cond.code ({ cls := "InASackToTheRopeModel", name := "says", desc := "(II)I" } : Jvm.MethodName) prog_23_method_14_code (6 : Nat) (Option.some Jvm.ClassFile.FieldType.int)) ∈ lw_all := lw_g (lw_at lw_m7 160 rfl) rfl
theorem q1694 : (Jvm.Cond.methodLink "InASackToTheRopeModel" (134 : Nat) ({ cls := "InASackToTheRopeModel", name := "puts", desc := "(I)V" } : Jvm.MethodName)) ∈ lw_all := lw_g (lw_at lw_m7 161 rfl) rfl
theorem q1695 : (Jvm.Cond.privateMethod ({ cls := "InASackToTheRopeModel", name := "puts", desc := "(I)V" } : Jvm.MethodName)) ∈ lw_tbl := lw_at lw_m7 162 rfl
theorem q1696 : (Jvm.Cond.instanceMethod ({ cls := "InASackToTheRopeModel", name := "puts", desc := "(I)V" } : Jvm.MethodName)) ∈ lw_all := lw_g (lw_at lw_m7 163 rfl) rfl
theorem q1697 : (Jvm.Cond.code ({ cls := "InASackToTheRopeModel", name := "puts", desc := "(I)V" } : Jvm.MethodName) prog_23_method_41_code (2 : Nat) (Option.none : Option Jvm.ClassFile.FieldType)) ∈ lw_all := lw_g (lw_at lw_m7 164 rfl) rfl
theorem q1698 : (Jvm.Cond.methodLink "InASackToTheRopeModel" (239 : Nat) ({ cls := "InASackToTheRopeModel", name := "putsIn", desc := "(I)V" } : Jvm.MethodName)) ∈ lw_all := lw_g (lw_at lw_m7 165 rfl) rfl
theorem q1699 : (Jvm.Cond.privateMethod ({ cls := "InASackToTheRopeModel", name := "putsIn", desc := "(I)V" } : Jvm.MethodName)) ∈ lw_tbl := lw_at lw_m7 166 rfl
theorem q1700 : (Jvm.Cond.instanceMethod ({ cls := "InASackToTheRopeModel", name := "putsIn", desc := "(I)V" } : Jvm.MethodName)) ∈ lw_all := lw_g (lw_at lw_m7 167 rfl) rfl
theorem q1701 : (Jvm.Cond.code ({ cls := "InASackToTheRopeModel", name := "putsIn", desc := "(I)V" } : Jvm.MethodName) prog_23_method_42_code (2 : Nat) (Option.none : Option Jvm.ClassFile.FieldType)) ∈ lw_all := lw_g (lw_at lw_m7 168 rfl) rfl
theorem q1702 : (Jvm.Cond.methodLink "InASackToTheRopeModel" (242 : Nat) ({ cls := "InASackToTheRopeModel", name := "abs", desc := "(I)I" } : Jvm.MethodName)) ∈ lw_all := lw_g (lw_at lw_m7 169 rfl) rfl
theorem q1703 : (Jvm.Cond.privateMethod ({ cls := "InASackToTheRopeModel", name := "abs", desc := "(I)I" } : Jvm.MethodName)) ∈ lw_tbl := lw_at lw_m7 170 rfl
theorem q1704 : (Jvm.Cond.instanceMethod ({ cls := "InASackToTheRopeModel", name := "abs", desc := "(I)I" } : Jvm.MethodName)) ∈ lw_all := lw_g (lw_at lw_m7 171 rfl) rfl
theorem q1705 : (Jvm.Cond.code ({ cls := "InASackToTheRopeModel", name := "abs", desc := "(I)I" } : Jvm.MethodName) prog_23_method_7_code (2 : Nat) (Option.some Jvm.ClassFile.FieldType.int)) ∈ lw_all := lw_g (lw_at lw_m7 172 rfl) rfl
theorem q1706 : (Jvm.Cond.methodLink "InASackToTheRopeModel" (138 : Nat) ({ cls := "InASackToTheRopeModel", name := "puff", desc := "()I" } : Jvm.MethodName)) ∈ lw_all := lw_g (lw_at lw_m7 173 rfl) rfl
theorem q1707 : (Jvm.Cond.privateMethod ({ cls := "InASackToTheRopeModel", name := "puff", desc := "()I" } : Jvm.MethodName)) ∈ lw_tbl := lw_at lw_m7 174 rfl
theorem q1708 : (Jvm.Cond.instanceMethod ({ cls := "InASackToTheRopeModel", name := "puff", desc := "()I" } : Jvm.MethodName)) ∈ lw_all := lw_g (lw_at lw_m7 175 rfl) rfl
theorem q1709 : (Jvm.Cond.code ({ cls := "InASackToTheRopeModel", name := "puff", desc := "()I" } : Jvm.MethodName) prog_23_method_45_code (1 : Nat) (Option.some Jvm.ClassFile.FieldType.int)) ∈ lw_all := lw_g (lw_at lw_m7 176 rfl) rfl
theorem q1710 : (Jvm.Cond.methodLink "InASackToTheRopeModel" (142 : Nat) ({ cls := "InASackToTheRopeModel", name := "stride", desc := "()I" } : Jvm.MethodName)) ∈ lw_all := lw_g (lw_at lw_m7 177 rfl) rfl
theorem q1711 : (Jvm.Cond.privateMethod ({ cls := "InASackToTheRopeModel", name := "stride", desc := "()I" } : Jvm.MethodName)) ∈ lw_tbl := lw_at lw_m7 178 rfl
theorem q1712 : (Jvm.Cond.instanceMethod ({ cls := "InASackToTheRopeModel", name := "stride", desc := "()I" } : Jvm.MethodName)) ∈ lw_all := lw_g (lw_at lw_m7 179 rfl) rfl
theorem q1713 : (Jvm.Cond.code ({ cls := "InASackToTheRopeModel", name := "stride", desc := "()I" } : Jvm.MethodName) prog_23_method_44_code (1 : Nat) (Option.some Jvm.ClassFile.FieldType.int)) ∈ lw_all := lw_g (lw_at lw_m7 180 rfl) rfl
theorem q1714 : (Jvm.Cond.methodLink "InASackToTheRopeModel" (251 : Nat) ({ cls := "InASackToTheRopeModel", name := "one", desc := "(I)I" } : Jvm.MethodName)) ∈ lw_all := lw_g (lw_at lw_m7 181 rfl) rfl
theorem q1715 : (Jvm.Cond.privateMethod ({ cls := "InASackToTheRopeModel", name := "one", desc := "(I)I" } : Jvm.MethodName)) ∈ lw_tbl := lw_at lw_m7 182 rfl
theorem q1716 : (Jvm.Cond.instanceMethod ({ cls := "InASackToTheRopeModel", name := "one", desc := "(I)I" } : Jvm.MethodName)) ∈ lw_all := lw_g (lw_at lw_m7 183 rfl) rfl
theorem q1717 : (Jvm.Cond.code ({ cls := "InASackToTheRopeModel", name := "one", desc := "(I)I" } : Jvm.MethodName) prog_23_method_43_code (2 : Nat) (Option.some Jvm.ClassFile.FieldType.int)) ∈ lw_all := lw_g (lw_at lw_m7 184 rfl) rfl
theorem q1718 : (Jvm.Cond.methodLink "InASackToTheRopeModel" (145 : Nat) ({ cls := "InASackToTheRopeModel", name := "risk", desc := "()I" } : Jvm.MethodName)) ∈ lw_all := lw_g (lw_at lw_m7 185 rfl) rfl
theorem q1719 : (Jvm.Cond.privateMethod ({ cls := "InASackToTheRopeModel", name := "risk", desc := "()I" } : Jvm.MethodName)) ∈ lw_tbl := lw_at lw_m7 186 rfl
theorem q1720 : (Jvm.Cond.instanceMethod ({ cls := "InASackToTheRopeModel", name := "risk", desc := "()I" } : Jvm.MethodName)) ∈ lw_all := lw_g (lw_at lw_m7 187 rfl) rfl
theorem q1721 : (Jvm.Cond.code ({ cls := "InASackToTheRopeModel", name := "risk", desc := "()I" } : Jvm.MethodName) prog_23_method_46_code (2 : Nat) (Option.some Jvm.ClassFile.FieldType.int)) ∈ lw_all := lw_g (lw_at lw_m7 188 rfl) rfl
theorem q1723 : (Jvm.Cond.instanceMethod ({ cls := "InASackToTheRopeModel", name := "child", desc := "(III)I" } : Jvm.MethodName)) ∈ lw_all := lw_g (lw_at lw_m7 190 rfl) rfl
theorem q1724 : (Jvm.Cond.selects "InASackToTheRopeModel" ({ cls := "InASackToTheRopeModel", name := "child", desc := "(III)I" } : Jvm.MethodName) ({ cls := "InASackToTheRopeModel", name := "child", desc := "(III)I" } : Jvm.MethodName)) ∈ lw_all := lw_g (lw_at lw_m7 191 rfl) rfl
theorem q1725 : (Jvm.Cond.code ({ cls := "InASackToTheRopeModel", name := "child", desc := "(III)I" } : Jvm.MethodName) prog_23_method_19_code (4 : Nat) (Option.some Jvm.ClassFile.FieldType.int)) ∈ lw_all := lw_g (lw_at lw_m7 192 rfl) rfl
theorem q1726 : (Jvm.Cond.methodLink "InASackToTheRopeModel" (148 : Nat) ({ cls := "InASackToTheRopeModel", name := "addsChild", desc := "(III)I" } : Jvm.MethodName)) ∈ lw_all := lw_g (lw_at lw_m7 193 rfl) rfl
theorem q1727 : (Jvm.Cond.privateMethod ({ cls := "InASackToTheRopeModel", name := "addsChild", desc := "(III)I" } : Jvm.MethodName)) ∈ lw_tbl := lw_at lw_m7 194 rfl
theorem q1728 : (Jvm.Cond.instanceMethod ({ cls := "InASackToTheRopeModel", name := "addsChild", desc := "(III)I" } : Jvm.MethodName)) ∈ lw_all := lw_g (lw_at lw_m7 195 rfl) rfl
theorem q1729 : (Jvm.Cond.code ({ cls := "InASackToTheRopeModel", name := "addsChild", desc := "(III)I" } : Jvm.MethodName) prog_23_method_17_code (4 : Nat) (Option.some Jvm.ClassFile.FieldType.int)) ∈ lw_all := lw_g (lw_at lw_m7 196 rfl) rfl
theorem q1731 : (Jvm.Cond.instanceMethod ({ cls := "InASackToTheRopeModel", name := "sack", desc := "(II)I" } : Jvm.MethodName)) ∈ lw_all := lw_g (lw_at lw_m7 198 rfl) rfl
theorem q1732 : (Jvm.Cond.selects "InASackToTheRopeModel" ({ cls := "InASackToTheRopeModel", name := "sack", desc := "(II)I" } : Jvm.MethodName) ({ cls := "InASackToTheRopeModel", name := "sack", desc := "(II)I" } : Jvm.MethodName)) ∈ lw_all := lw_g (lw_at lw_m7 199 rfl) rfl
theorem q1733 : (Jvm.Cond.code ({ cls := "InASackToTheRopeModel", name := "sack", desc := "(II)I" } : Jvm.MethodName) prog_23_method_20_code (3 : Nat) (Option.some Jvm.ClassFile.FieldType.int)) ∈ lw_all := lw_g (lw_at lw_m7 200 rfl) rfl
theorem q1734 : (Jvm.Cond.methodLink "InASackToTheRopeModel" (152 : Nat) ({ cls := "InASackToTheRopeModel", name := "addsSack", desc := "(II)I" } : Jvm.MethodName)) ∈ lw_all := lw_g (lw_at lw_m7 201 rfl) rfl
theorem q1735 : (Jvm.Cond.privateMethod ({ cls := "InASackToTheRopeModel", name := "addsSack", desc := "(II)I" } : Jvm.MethodName)) ∈ lw_tbl := lw_at lw_m7 202 rfl
theorem q1736 : (Jvm.Cond.instanceMethod ({ cls := "InASackToTheRopeModel", name := "addsSack", desc := "(II)I" } : Jvm.MethodName)) ∈ lw_all := lw_g (lw_at lw_m7 203 rfl) rfl
theorem q1737 : (Jvm.Cond.code ({ cls := "InASackToTheRopeModel", name := "addsSack", desc := "(II)I" } : Jvm.MethodName) prog_23_method_18_code (3 : Nat) (Option.some Jvm.ClassFile.FieldType.int)) ∈ lw_all := lw_g (lw_at lw_m7 204 rfl) rfl
theorem q1739 : (Jvm.Cond.instanceMethod ({ cls := "InASackToTheRopeModel", name := "childOf", desc := "(II)I" } : Jvm.MethodName)) ∈ lw_all := lw_g (lw_at lw_m7 206 rfl) rfl
theorem q1740 : (Jvm.Cond.selects "InASackToTheRopeModel" ({ cls := "InASackToTheRopeModel", name := "childOf", desc := "(II)I" } : Jvm.MethodName) ({ cls := "InASackToTheRopeModel", name := "childOf", desc := "(II)I" } : Jvm.MethodName)) ∈ lw_all := lw_g (lw_at lw_m7 207 rfl) rfl
theorem q1741 : (Jvm.Cond.code ({ cls := "InASackToTheRopeModel", name := "childOf", desc := "(II)I" } : Jvm.MethodName) prog_23_method_21_code (3 : Nat) (Option.some Jvm.ClassFile.FieldType.int)) ∈ lw_all := lw_g (lw_at lw_m7 208 rfl) rfl
theorem q1743 : (Jvm.Cond.instanceMethod ({ cls := "InASackToTheRopeModel", name := "sackOf", desc := "(II)I" } : Jvm.MethodName)) ∈ lw_all := lw_g (lw_at lw_m7 210 rfl) rfl
theorem q1744 : (Jvm.Cond.selects "InASackToTheRopeModel" ({ cls := "InASackToTheRopeModel", name := "sackOf", desc := "(II)I" } : Jvm.MethodName) ({ cls := "InASackToTheRopeModel", name := "sackOf", desc := "(II)I" } : Jvm.MethodName)) ∈ lw_all := lw_g (lw_at lw_m7 211 rfl) rfl
theorem q1745 : (Jvm.Cond.code ({ cls := "InASackToTheRopeModel", name := "sackOf", desc := "(II)I" } : Jvm.MethodName) prog_23_method_22_code (3 : Nat) (Option.some Jvm.ClassFile.FieldType.int)) ∈ lw_all := lw_g (lw_at lw_m7 212 rfl) rfl
theorem q1746 : (Jvm.Cond.methodLink "InASackToTheRopeModel" (156 : Nat) ({ cls := "InASackToTheRopeModel", name := "isSack", desc := "(I)Z" } : Jvm.MethodName)) ∈ lw_all := lw_g (lw_at lw_m7 213 rfl) rfl
theorem q1747 : (Jvm.Cond.privateMethod ({ cls := "InASackToTheRopeModel", name := "isSack", desc := "(I)Z" } : Jvm.MethodName)) ∈ lw_tbl := lw_at lw_m7 214 rfl
theorem q1748 : (Jvm.Cond.instanceMethod ({ cls := "InASackToTheRopeModel", name := "isSack", desc := "(I)Z" } : Jvm.MethodName)) ∈ lw_all := lw_g (lw_at lw_m7 215 rfl) rfl
theorem q1749 : (Jvm.Cond.code ({ cls := "InASackToTheRopeModel", name := "isSack", desc := "(I)Z" } : Jvm.MethodName) prog_23_method_6_code (2 : Nat) (Option.some Jvm.ClassFile.FieldType.boolean)) ∈ lw_all := lw_g (lw_at lw_m7 216 rfl) rfl
theorem q1751 : (Jvm.Cond.instanceMethod ({ cls := "InASackToTheRopeModel", name := "wears", desc := "(II)I" } : Jvm.MethodName)) ∈ lw_all := lw_g (lw_at lw_m7 218 rfl) rfl
theorem q1752 : (Jvm.Cond.selects "InASackToTheRopeModel" ({ cls := "InASackToTheRopeModel", name := "wears", desc := "(II)I" } : Jvm.MethodName) ({ cls := "InASackToTheRopeModel", name := "wears", desc := "(II)I" } : Jvm.MethodName)) ∈ lw_all := lw_g (lw_at lw_m7 219 rfl) rfl
theorem q1753 : (Jvm.Cond.code ({ cls := "InASackToTheRopeModel", name := "wears", desc := "(II)I" } : Jvm.MethodName) prog_23_method_23_code (4 : Nat) (Option.some Jvm.ClassFile.FieldType.int)) ∈ lw_all := lw_g (lw_at lw_m7 220 rfl) rfl
theorem q1755 : (Jvm.Cond.instanceMethod ({ cls := "InASackToTheRopeModel", name := "ahead", desc := "(II)I" } : Jvm.MethodName)) ∈ lw_all := lw_g (lw_at lw_m7 222 rfl) rfl
theorem q1756 : (Jvm.Cond.selects "InASackToTheRopeModel" ({ cls := "InASackToTheRopeModel", name := "ahead", desc := "(II)I" } : Jvm.MethodName) ({ cls := "InASackToTheRopeModel", name := "ahead", desc := "(II)I" } : Jvm.MethodName)) ∈ lw_all := lw_g (lw_at lw_m7 223 rfl) rfl
theorem q1757 : (Jvm.Cond.code ({ cls := "InASackToTheRopeModel", name := "ahead", desc := "(II)I" } : Jvm.MethodName) prog_23_method_24_code (4 : Nat) (Option.some Jvm.ClassFile.FieldType.int)) ∈ lw_all := lw_g (lw_at lw_m7 224 rfl) rfl
theorem q1759 : (Jvm.Cond.instanceMethod ({ cls := "InASackToTheRopeModel", name := "ask", desc := "(II)I" } : Jvm.MethodName)) ∈ lw_all := lw_g (lw_at lw_m7 226 rfl) rfl
theorem q1760 : (Jvm.Cond.selects "InASackToTheRopeModel" ({ cls := "InASackToTheRopeModel", name := "ask", desc := "(II)I" } : Jvm.MethodName) ({ cls := "InASackToTheRopeModel", name := "ask", desc := "(II)I" } : Jvm.MethodName)) ∈ lw_all := lw_g (lw_at lw_m7 227 rfl) rfl
theorem q1761 : (Jvm.Cond.code ({ cls := "InASackToTheRopeModel", name := "ask", desc := "(II)I" } : Jvm.MethodName) prog_23_method_28_code (4 : Nat) (Option.some Jvm.ClassFile.FieldType.int)) ∈ lw_all := lw_g (lw_at lw_m7 228 rfl) rfl
theorem q1762 : (Jvm.Cond.methodLink "InASackToTheRopeModel" (159 : Nat) ({ cls := "InASackToTheRopeModel", name := "isAsked", desc := "(II)Z" } : Jvm.MethodName)) ∈ lw_all := lw_g (lw_at lw_m7 229 rfl) rfl
theorem q1763 : (Jvm.Cond.privateMethod ({ cls := "InASackToTheRopeModel", name := "isAsked", desc := "(II)Z" } : Jvm.MethodName)) ∈ lw_tbl := lw_at lw_m7 230 rfl
theorem q1764 : (Jvm.Cond.instanceMethod ({ cls := "InASackToTheRopeModel", name := "isAsked", desc := "(II)Z" } : Jvm.MethodName)) ∈ lw_all := lw_g (lw_at lw_m7 231 rfl) rfl
theorem q1765 : (Jvm.Cond.code ({ cls := "InASackToTheRopeModel", name := "isAsked", desc := "(II)Z" } : Jvm.MethodName) prog_23_method_25_code (3 : Nat) (Option.some Jvm.ClassFile.FieldType.boolean)) ∈ lw_all := lw_g (lw_at lw_m7 232 rfl) rfl
theorem q1766 : (Jvm.Cond.methodLink "InASackToTheRopeModel" (163 : Nat) ({ cls := "InASackToTheRopeModel", name := "told", desc := "(I)I" } : Jvm.MethodName)) ∈ lw_all := lw_g (lw_at lw_m7 233 rfl) rfl
theorem q1767 : (Jvm.Cond.privateMethod ({ cls := "InASackToTheRopeModel", name := "told", desc := "(I)I" } : Jvm.MethodName)) ∈ lw_tbl := lw_at lw_m7 234 rfl
theorem q1768 : (Jvm.Cond.instanceMethod ({ cls := "InASackToTheRopeModel", name := "told", desc := "(I)I" } : Jvm.MethodName)) ∈ lw_all := lw_g (lw_at lw_m7 235 rfl) rfl
theorem q1769 : (Jvm.Cond.code ({ cls := "InASackToTheRopeModel", name := "told", desc := "(I)I" } : Jvm.MethodName) prog_23_method_26_code (2 : Nat) (Option.some Jvm.ClassFile.FieldType.int)) ∈ lw_all := lw_g (lw_at lw_m7 236 rfl) rfl
theorem q1770 : (Jvm.Cond.methodLink "InASackToTheRopeModel" (166 : Nat) ({ cls := "InASackToTheRopeModel", name := "tells", desc := "(II)V" } : Jvm.MethodName)) ∈ lw_all := lw_g (lw_at lw_m7 237 rfl) rfl
theorem q1771 : (Jvm.Cond.privateMethod ({ cls := "InASackToTheRopeModel", name := "tells", desc := "(II)V" } : Jvm.MethodName)) ∈ lw_tbl := lw_at lw_m7 238 rfl
theorem q1772 : (Jvm.Cond.instanceMethod ({ cls := "InASackToTheRopeModel", name := "tells", desc := "(II)V" } : Jvm.MethodName)) ∈ lw_all := lw_g (lw_at lw_m7 239 rfl) rfl
theorem q1773 : (Jvm.Cond.code ({ cls := "InASackToTheRopeModel", name := "tells", desc := "(II)V" } : Jvm.MethodName) prog_23_method_27_code (3 : Nat) (Option.none : Option Jvm.ClassFile.FieldType)) ∈ lw_all := lw_g (lw_at lw_m8 0 rfl) rfl
theorem q1775 : (Jvm.Cond.instanceMethod ({ cls := "InASackToTheRopeModel", name := "roll", desc := "(Z)I" } : Jvm.MethodName)) ∈ lw_all := lw_g (lw_at lw_m8 2 rfl) rfl
theorem q1776 : (Jvm.Cond.selects "InASackToTheRopeModel" ({ cls := "InASackToTheRopeModel", name := "roll", desc := "(Z)I" } : Jvm.MethodName) ({ cls := "InASackToTheRopeModel", name := "roll", desc := "(Z)I" } : Jvm.MethodName)) ∈ lw_all := lw_g (lw_at lw_m8 3 rfl) rfl
theorem q1777 : (Jvm.Cond.code ({ cls := "InASackToTheRopeModel", name := "roll", desc := "(Z)I" } : Jvm.MethodName) prog_23_method_29_code (3 : Nat) (Option.some Jvm.ClassFile.FieldType.int)) ∈ lw_all := lw_g (lw_at lw_m8 4 rfl) rfl
theorem q1779 : (Jvm.Cond.instanceMethod ({ cls := "InASackToTheRopeModel", name := "field", desc := "(I)I" } : Jvm.MethodName)) ∈ lw_all := lw_g (lw_at lw_m8 6 rfl) rfl
theorem q1780 : (Jvm.Cond.selects "InASackToTheRopeModel" ({ cls := "InASackToTheRopeModel", name := "field", desc := "(I)I" } : Jvm.MethodName) ({ cls := "InASackToTheRopeModel", name := "field", desc := "(I)I" } : Jvm.MethodName)) ∈ lw_all := lw_g (lw_at lw_m8 7 rfl) rfl
theorem q1781 : (Jvm.Cond.code ({ cls := "InASackToTheRopeModel", name := "field", desc := "(I)I" } : Jvm.MethodName) prog_23_method_39_code (5 : Nat) (Option.some Jvm.ClassFile.FieldType.int)) ∈ lw_all := lw_g (lw_at lw_m8 8 rfl) rfl
theorem q1782 : (Jvm.Cond.methodLink "InASackToTheRopeModel" (214 : Nat) ({ cls := "InASackToTheRopeModel", name := "wanted", desc := "(I)I" } : Jvm.MethodName)) ∈ lw_all := lw_g (lw_at lw_m8 9 rfl) rfl
theorem q1783 : (Jvm.Cond.privateMethod ({ cls := "InASackToTheRopeModel", name := "wanted", desc := "(I)I" } : Jvm.MethodName)) ∈ lw_tbl := lw_at lw_m8 10 rfl
theorem q1784 : (Jvm.Cond.instanceMethod ({ cls := "InASackToTheRopeModel", name := "wanted", desc := "(I)I" } : Jvm.MethodName)) ∈ lw_all := lw_g (lw_at lw_m8 11 rfl) rfl
theorem q1785 : (Jvm.Cond.code ({ cls := "InASackToTheRopeModel", name := "wanted", desc := "(I)I" } : Jvm.MethodName) prog_23_method_15_code (2 : Nat) (Option.some Jvm.ClassFile.FieldType.int)) ∈ lw_all := lw_g (lw_at lw_m8 12 rfl) rfl
theorem q1786 : (Jvm.Cond.methodLink "InASackToTheRopeModel" (217 : Nat) ({ cls := "InASackToTheRopeModel", name := "all", desc := "([IZ)V" } : Jvm.MethodName)) ∈ lw_all := lw_g (lw_at lw_m8 13 rfl) rfl
theorem q1787 : (Jvm.Cond.privateMethod ({ cls := "InASackToTheRopeModel", name := "all", desc := "([IZ)V" } : Jvm.MethodName)) ∈ lw_tbl := lw_at lw_m8 14 rfl
theorem q1788 : (Jvm.Cond.instanceMethod ({ cls := "InASackToTheRopeModel", name := "all", desc := "([IZ)V" } : Jvm.MethodName)) ∈ lw_all := lw_g (lw_at lw_m8 15 rfl) rfl
theorem q1789 : (Jvm.Cond.code ({ cls := "InASackToTheRopeModel", name := "all", desc := "([IZ)V" } : Jvm.MethodName) prog_23_method_38_code (5 : Nat) (Option.none : Option Jvm.ClassFile.FieldType)) ∈ lw_all := lw_g (lw_at lw_m8 16 rfl) rfl
theorem q1790 : (Jvm.Cond.methodLink "InASackToTheRopeModel" (207 : Nat) ({ cls := "InASackToTheRopeModel", name := "carries", desc := "([I[IIZ)I" } : Jvm.MethodName)) ∈ lw_all := lw_g (lw_at lw_m8 17 rfl) rfl
theorem q1791 : (Jvm.Cond.privateMethod ({ cls := "InASackToTheRopeModel", name := "carries", desc := "([I[IIZ)I" } : Jvm.MethodName)) ∈ lw_tbl := lw_at lw_m8 18 rfl
theorem q1792 : (Jvm.Cond.instanceMethod ({ cls := "InASackToTheRopeModel", name := "carries", desc := "([I[IIZ)I" } : Jvm.MethodName)) ∈ lw_all := lw_g (lw_at lw_m8 19 rfl) rfl
theorem q1793 : (Jvm.Cond.code ({ cls := "InASackToTheRopeModel", name := "carries", desc := "([I[IIZ)I" } : Jvm.MethodName) prog_23_method_37_code (6 : Nat) (Option.some Jvm.ClassFile.FieldType.int)) ∈ lw_all := lw_g (lw_at lw_m8 20 rfl) rfl
theorem q1794 : (Jvm.Cond.methodLink "InASackToTheRopeModel" (221 : Nat) ({ cls := "InASackToTheRopeModel", name := "item", desc := "()Z" } : Jvm.MethodName)) ∈ lw_all := lw_g (lw_at lw_m8 21 rfl) rfl
theorem q1795 : (Jvm.Cond.privateMethod ({ cls := "InASackToTheRopeModel", name := "item", desc := "()Z" } : Jvm.MethodName)) ∈ lw_tbl := lw_at lw_m8 22 rfl
theorem q1796 : (Jvm.Cond.instanceMethod ({ cls := "InASackToTheRopeModel", name := "item", desc := "()Z" } : Jvm.MethodName)) ∈ lw_all := lw_g (lw_at lw_m8 23 rfl) rfl
theorem q1797 : (Jvm.Cond.code ({ cls := "InASackToTheRopeModel", name := "item", desc := "()Z" } : Jvm.MethodName) prog_23_method_36_code (4 : Nat) (Option.some Jvm.ClassFile.FieldType.boolean)) ∈ lw_all := lw_g (lw_at lw_m8 24 rfl) rfl
theorem q1798 : (Jvm.Cond.methodLink "InASackToTheRopeModel" (195 : Nat) ({ cls := "InASackToTheRopeModel", name := "stands", desc := "(I)Z" } : Jvm.MethodName)) ∈ lw_all := lw_g (lw_at lw_m8 25 rfl) rfl
theorem q1799 : (Jvm.Cond.privateMethod ({ cls := "InASackToTheRopeModel", name := "stands", desc := "(I)Z" } : Jvm.MethodName)) ∈ lw_tbl := lw_at lw_m8 26 rfl
theorem q1800 : (Jvm.Cond.instanceMethod ({ cls := "InASackToTheRopeModel", name := "stands", desc := "(I)Z" } : Jvm.MethodName)) ∈ lw_all := lw_g (lw_at lw_m8 27 rfl) rfl
theorem q1801 : (Jvm.Cond.code ({ cls := "InASackToTheRopeModel", name := "stands", desc := "(I)Z" } : Jvm.MethodName) prog_23_method_31_code (4 : Nat) (Option.some Jvm.ClassFile.FieldType.boolean)) ∈ lw_all := lw_g (lw_at lw_m8 28 rfl) rfl
theorem q1802 : (Jvm.Cond.methodLink "InASackToTheRopeModel" (192 : Nat) ({ cls := "InASackToTheRopeModel", name := "wrong", desc := "(I)Z" } : Jvm.MethodName)) ∈ lw_all := lw_g (lw_at lw_m8 29 rfl) rfl
theorem q1803 : (Jvm.Cond.privateMethod ({ cls := "InASackToTheRopeModel", name := "wrong", desc := "(I)Z" } : Jvm.MethodName)) ∈ lw_tbl := lw_at lw_m8 30 rfl
theorem q1804 : (Jvm.Cond.instanceMethod ({ cls := "InASackToTheRopeModel", name := "wrong", desc := "(I)Z" } : Jvm.MethodName)) ∈ lw_all := lw_g (lw_at lw_m8 31 rfl) rfl
theorem q1805 : (Jvm.Cond.code ({ cls := "InASackToTheRopeModel", name := "wrong", desc := "(I)Z" } : Jvm.MethodName) prog_23_method_30_code (2 : Nat) (Option.some Jvm.ClassFile.FieldType.boolean)) ∈ lw_all := lw_g (lw_at lw_m8 32 rfl) rfl
theorem q1806 : (Jvm.Cond.methodLink "InASackToTheRopeModel" (198 : Nat) ({ cls := "InASackToTheRopeModel", name := "word", desc := "()I" } : Jvm.MethodName)) ∈ lw_all := lw_g (lw_at lw_m8 33 rfl) rfl
theorem q1807 : (Jvm.Cond.privateMethod ({ cls := "InASackToTheRopeModel", name := "word", desc := "()I" } : Jvm.MethodName)) ∈ lw_tbl := lw_at lw_m8 34 rfl
theorem q1808 : (Jvm.Cond.instanceMethod ({ cls := "InASackToTheRopeModel", name := "word", desc := "()I" } : Jvm.MethodName)) ∈ lw_all := lw_g (lw_at lw_m8 35 rfl) rfl
theorem q1809 : (Jvm.Cond.code ({ cls := "InASackToTheRopeModel", name := "word", desc := "()I" } : Jvm.MethodName) prog_23_method_32_code (6 : Nat) (Option.some Jvm.ClassFile.FieldType.int)) ∈ lw_all := lw_g (lw_at lw_m8 36 rfl) rfl
theorem q1810 : (Jvm.Cond.methodLink "InASackToTheRopeModel" (201 : Nat) ({ cls := "InASackToTheRopeModel", name := "reads", desc := "()Z" } : Jvm.MethodName)) ∈ lw_all := lw_g (lw_at lw_m8 37 rfl) rfl
theorem q1811 : (Jvm.Cond.privateMethod ({ cls := "InASackToTheRopeModel", name := "reads", desc := "()Z" } : Jvm.MethodName)) ∈ lw_tbl := lw_at lw_m8 38 rfl
theorem q1812 : (Jvm.Cond.instanceMethod ({ cls := "InASackToTheRopeModel", name := "reads", desc := "()Z" } : Jvm.MethodName)) ∈ lw_all := lw_g (lw_at lw_m8 39 rfl) rfl
theorem q1813 : (Jvm.Cond.code ({ cls := "InASackToTheRopeModel", name := "reads", desc := "()Z" } : Jvm.MethodName) prog_23_method_34_code (2 : Nat) (Option.some Jvm.ClassFile.FieldType.boolean)) ∈ lw_all := lw_g (lw_at lw_m8 40 rfl) rfl
theorem q1814 : (Jvm.Cond.methodLink "InASackToTheRopeModel" (188 : Nat) ({ cls := "InASackToTheRopeModel", name := "isDigit", desc := "()Z" } : Jvm.MethodName)) ∈ lw_all := lw_g (lw_at lw_m8 41 rfl) rfl
theorem q1815 : (Jvm.Cond.privateMethod ({ cls := "InASackToTheRopeModel", name := "isDigit", desc := "()Z" } : Jvm.MethodName)) ∈ lw_tbl := lw_at lw_m8 42 rfl
theorem q1816 : (Jvm.Cond.instanceMethod ({ cls := "InASackToTheRopeModel", name := "isDigit", desc := "()Z" } : Jvm.MethodName)) ∈ lw_all := lw_g (lw_at lw_m8 43 rfl) rfl
theorem q1817 : (Jvm.Cond.code ({ cls := "InASackToTheRopeModel", name := "isDigit", desc := "()Z" } : Jvm.MethodName) prog_23_method_33_code (1 : Nat) (Option.some Jvm.ClassFile.FieldType.boolean)) ∈ lw_all := lw_g (lw_at lw_m8 44 rfl) rfl
theorem q1818 : (Jvm.Cond.methodLink "InASackToTheRopeModel" (204 : Nat) ({ cls := "InASackToTheRopeModel", name := "isSo", desc := "(II)Z" } : Jvm.MethodName)) ∈ lw_all := lw_g (lw_at lw_m8 45 rfl) rfl
theorem q1819 : (Jvm.Cond.privateMethod ({ cls := "InASackToTheRopeModel", name := "isSo", desc := "(II)Z" } : Jvm.MethodName)) ∈ lw_tbl := lw_at lw_m8 46 rfl
theorem q1820 : (Jvm.Cond.instanceMethod ({ cls := "InASackToTheRopeModel", name := "isSo", desc := "(II)Z" } : Jvm.MethodName)) ∈ lw_all := lw_g (lw_at lw_m8 47 rfl) rfl
theorem q1821 : (Jvm.Cond.code ({ cls := "InASackToTheRopeModel", name := "isSo", desc := "(II)Z" } : Jvm.MethodName) prog_23_method_35_code (3 : Nat) (Option.some Jvm.ClassFile.FieldType.boolean)) ∈ lw_all := lw_g (lw_at lw_m8 48 rfl) rfl
theorem q1823 : (Jvm.Cond.instanceMethod ({ cls := "InASackToTheRopeModel", name := "fault", desc := "()I" } : Jvm.MethodName)) ∈ lw_all := lw_g (lw_at lw_m8 50 rfl) rfl
theorem q1824 : (Jvm.Cond.selects "InASackToTheRopeModel" ({ cls := "InASackToTheRopeModel", name := "fault", desc := "()I" } : Jvm.MethodName) ({ cls := "InASackToTheRopeModel", name := "fault", desc := "()I" } : Jvm.MethodName)) ∈ lw_all := lw_g (lw_at lw_m8 51 rfl) rfl
theorem q1825 : (Jvm.Cond.code ({ cls := "InASackToTheRopeModel", name := "fault", desc := "()I" } : Jvm.MethodName) prog_23_method_40_code (1 : Nat) (Option.some Jvm.ClassFile.FieldType.int)) ∈ lw_all := lw_g (lw_at lw_m8 52 rfl) rfl
theorem q1827 : (Jvm.Cond.instanceMethod ({ cls := "InASackToTheRopeModel", name := "behind", desc := "(III)I" } : Jvm.MethodName)) ∈ lw_all := lw_g (lw_at lw_m8 54 rfl) rfl
theorem q1828 : (Jvm.Cond.selects "InASackToTheRopeModel" ({ cls := "InASackToTheRopeModel", name := "behind", desc := "(III)I" } : Jvm.MethodName) ({ cls := "InASackToTheRopeModel", name := "behind", desc := "(III)I" } : Jvm.MethodName)) ∈ lw_all := lw_g (lw_at lw_m8 55 rfl) rfl
theorem q1829 : (Jvm.Cond.code ({ cls := "InASackToTheRopeModel", name := "behind", desc := "(III)I" } : Jvm.MethodName) prog_23_method_60_code (5 : Nat) (Option.some Jvm.ClassFile.FieldType.int)) ∈ lw_all := lw_g (lw_at lw_m8 56 rfl) rfl
theorem q1830 : (Jvm.Cond.methodLink "InASackToTheRopeModel" (281 : Nat) ({ cls := "InASackToTheRopeModel", name := "starts", desc := "()V" } : Jvm.MethodName)) ∈ lw_all := lw_g (lw_at lw_m8 57 rfl) rfl
theorem q1831 : (Jvm.Cond.privateMethod ({ cls := "InASackToTheRopeModel", name := "starts", desc := "()V" } : Jvm.MethodName)) ∈ lw_tbl := lw_at lw_m8 58 rfl
theorem q1832 : (Jvm.Cond.instanceMethod ({ cls := "InASackToTheRopeModel", name := "starts", desc := "()V" } : Jvm.MethodName)) ∈ lw_all := lw_g (lw_at lw_m8 59 rfl) rfl
theorem q1833 : (Jvm.Cond.code ({ cls := "InASackToTheRopeModel", name := "starts", desc := "()V" } : Jvm.MethodName) prog_23_method_48_code (1 : Nat) (Option.none : Option Jvm.ClassFile.FieldType)) ∈ lw_all := lw_g (lw_at lw_m8 60 rfl) rfl
theorem q1834 : (Jvm.Cond.methodLink "InASackToTheRopeModel" (284 : Nat) ({ cls := "InASackToTheRopeModel", name := "second", desc := "()V" } : Jvm.MethodName)) ∈ lw_all := lw_g (lw_at lw_m8 61 rfl) rfl
theorem q1835 : (Jvm.Cond.privateMethod ({ cls := "InASackToTheRopeModel", name := "second", desc := "()V" } : Jvm.MethodName)) ∈ lw_tbl := lw_at lw_m8 62 rfl
theorem q1836 : (Jvm.Cond.instanceMethod ({ cls := "InASackToTheRopeModel", name := "second", desc := "()V" } : Jvm.MethodName)) ∈ lw_all := lw_g (lw_at lw_m8 63 rfl) rfl
theorem q1837 : (Jvm.Cond.code ({ cls := "InASackToTheRopeModel", name := "second", desc := "()V" } : Jvm.MethodName) prog_23_method_52_code (1 : Nat) (Option.none : Option Jvm.ClassFile.FieldType)) ∈ lw_all := lw_g (lw_at lw_m8 64 rfl) rfl
theorem q1838 : (Jvm.Cond.methodLink "InASackToTheRopeModel" (269 : Nat) ({ cls := "InASackToTheRopeModel", name := "rests", desc := "()V" } : Jvm.MethodName)) ∈ lw_all := lw_g (lw_at lw_m8 65 rfl) rfl
theorem q1839 : (Jvm.Cond.privateMethod ({ cls := "InASackToTheRopeModel", name := "rests", desc := "()V" } : Jvm.MethodName)) ∈ lw_tbl := lw_at lw_m8 66 rfl
theorem q1840 : (Jvm.Cond.instanceMethod ({ cls := "InASackToTheRopeModel", name := "rests", desc := "()V" } : Jvm.MethodName)) ∈ lw_all := lw_g (lw_at lw_m8 67 rfl) rfl
theorem q1841 : (Jvm.Cond.code ({ cls := "InASackToTheRopeModel", name := "rests", desc := "()V" } : Jvm.MethodName) prog_23_method_50_code (1 : Nat) (Option.none : Option Jvm.ClassFile.FieldType)) ∈ lw_all := lw_g (lw_at lw_m8 68 rfl) rfl
theorem q1842 : (Jvm.Cond.methodLink "InASackToTheRopeModel" (272 : Nat) ({ cls := "InASackToTheRopeModel", name := "riskNow", desc := "()I" } : Jvm.MethodName)) ∈ lw_all := lw_g (lw_at lw_m8 69 rfl) rfl
theorem q1843 : (Jvm.Cond.privateMethod ({ cls := "InASackToTheRopeModel", name := "riskNow", desc := "()I" } : Jvm.MethodName)) ∈ lw_tbl := lw_at lw_m8 70 rfl
theorem q1844 : (Jvm.Cond.instanceMethod ({ cls := "InASackToTheRopeModel", name := "riskNow", desc := "()I" } : Jvm.MethodName)) ∈ lw_all := lw_g (lw_at lw_m8 71 rfl) rfl
theorem q1845 : (Jvm.Cond.code ({ cls := "InASackToTheRopeModel", name := "riskNow", desc := "()I" } : Jvm.MethodName) prog_23_method_47_code (1 : Nat) (Option.some Jvm.ClassFile.FieldType.int)) ∈ lw_all := lw_g (lw_at lw_m8 72 rfl) rfl
theorem q1846 : (Jvm.Cond.methodLink "InASackToTheRopeModel" (275 : Nat) ({ cls := "InASackToTheRopeModel", name := "puffs", desc := "()V" } : Jvm.MethodName)) ∈ lw_all := lw_g (lw_at lw_m8 73 rfl) rfl
theorem q1847 : (Jvm.Cond.privateMethod ({ cls := "InASackToTheRopeModel", name := "puffs", desc := "()V" } : Jvm.MethodName)) ∈ lw_tbl := lw_at lw_m8 74 rfl
theorem q1848 : (Jvm.Cond.instanceMethod ({ cls := "InASackToTheRopeModel", name := "puffs", desc := "()V" } : Jvm.MethodName)) ∈ lw_all := lw_g (lw_at lw_m8 75 rfl) rfl
theorem q1849 : (Jvm.Cond.code ({ cls := "InASackToTheRopeModel", name := "puffs", desc := "()V" } : Jvm.MethodName) prog_23_method_51_code (1 : Nat) (Option.none : Option Jvm.ClassFile.FieldType)) ∈ lw_all := lw_g (lw_at lw_m8 76 rfl) rfl
theorem q1850 : (Jvm.Cond.methodLink "InASackToTheRopeModel" (278 : Nat) ({ cls := "InASackToTheRopeModel", name := "falls", desc := "()V" } : Jvm.MethodName)) ∈ lw_all := lw_g (lw_at lw_m8 77 rfl) rfl
theorem q1851 : (Jvm.Cond.privateMethod ({ cls := "InASackToTheRopeModel", name := "falls", desc := "()V" } : Jvm.MethodName)) ∈ lw_tbl := lw_at lw_m8 78 rfl
theorem q1852 : (Jvm.Cond.instanceMethod ({ cls := "InASackToTheRopeModel", name := "falls", desc := "()V" } : Jvm.MethodName)) ∈ lw_all := lw_g (lw_at lw_m8 79 rfl) rfl
theorem q1853 : (Jvm.Cond.code ({ cls := "InASackToTheRopeModel", name := "falls", desc := "()V" } : Jvm.MethodName) prog_23_method_49_code (1 : Nat) (Option.none : Option Jvm.ClassFile.FieldType)) ∈ lw_all := lw_g (lw_at lw_m8 80 rfl) rfl
theorem q1855 : (Jvm.Cond.instanceMethod ({ cls := "InASackToTheRopeModel", name := "comesIn", desc := "(I)I" } : Jvm.MethodName)) ∈ lw_all := lw_g (lw_at lw_m8 82 rfl) rfl
theorem q1856 : (Jvm.Cond.selects "InASackToTheRopeModel" ({ cls := "InASackToTheRopeModel", name := "comesIn", desc := "(I)I" } : Jvm.MethodName) ({ cls := "InASackToTheRopeModel", name := "comesIn", desc := "(I)I" } : Jvm.MethodName)) ∈ lw_all := lw_g (lw_at lw_m8 83 rfl) rfl
theorem q1857 : (Jvm.Cond.code ({ cls := "InASackToTheRopeModel", name := "comesIn", desc := "(I)I" } : Jvm.MethodName) prog_23_method_61_code (2 : Nat) (Option.some Jvm.ClassFile.FieldType.int)) ∈ lw_all := lw_g (lw_at lw_m8 84 rfl) rfl
theorem q1858 : (Jvm.Cond.methodLink "InASackToTheRopeModel" (293 : Nat) ({ cls := "InASackToTheRopeModel", name := "inOf", desc := "(I)I" } : Jvm.MethodName)) ∈ lw_all := lw_g (lw_at lw_m8 85 rfl) rfl
theorem q1859 : (Jvm.Cond.privateMethod ({ cls := "InASackToTheRopeModel", name := "inOf", desc := "(I)I" } : Jvm.MethodName)) ∈ lw_tbl := lw_at lw_m8 86 rfl
theorem q1860 : (Jvm.Cond.instanceMethod ({ cls := "InASackToTheRopeModel", name := "inOf", desc := "(I)I" } : Jvm.MethodName)) ∈ lw_all := lw_g (lw_at lw_m8 87 rfl) rfl
theorem q1861 : (Jvm.Cond.code ({ cls := "InASackToTheRopeModel", name := "inOf", desc := "(I)I" } : Jvm.MethodName) prog_23_method_55_code (2 : Nat) (Option.some Jvm.ClassFile.FieldType.int)) ∈ lw_all := lw_g (lw_at lw_m8 88 rfl) rfl
theorem q1862 : (Jvm.Cond.methodLink "InASackToTheRopeModel" (290 : Nat) ({ cls := "InASackToTheRopeModel", name := "in", desc := "()I" } : Jvm.MethodName)) ∈ lw_all := lw_g (lw_at lw_m8 89 rfl) rfl
theorem q1863 : (Jvm.Cond.privateMethod ({ cls := "InASackToTheRopeModel", name := "in", desc := "()I" } : Jvm.MethodName)) ∈ lw_tbl := lw_at lw_m8 90 rfl
theorem q1864 : (Jvm.Cond.instanceMethod ({ cls := "InASackToTheRopeModel", name := "in", desc := "()I" } : Jvm.MethodName)) ∈ lw_all := lw_g (lw_at lw_m8 91 rfl) rfl
theorem q1865 : (Jvm.Cond.code ({ cls := "InASackToTheRopeModel", name := "in", desc := "()I" } : Jvm.MethodName) prog_23_method_54_code (2 : Nat) (Option.some Jvm.ClassFile.FieldType.int)) ∈ lw_all := lw_g (lw_at lw_m8 92 rfl) rfl
theorem q1866 : (Jvm.Cond.methodLink "InASackToTheRopeModel" (287 : Nat) ({ cls := "InASackToTheRopeModel", name := "withRope", desc := "(I)I" } : Jvm.MethodName)) ∈ lw_all := lw_g (lw_at lw_m8 93 rfl) rfl
theorem q1867 : (Jvm.Cond.privateMethod ({ cls := "InASackToTheRopeModel", name := "withRope", desc := "(I)I" } : Jvm.MethodName)) ∈ lw_tbl := lw_at lw_m8 94 rfl
theorem q1868 : (Jvm.Cond.instanceMethod ({ cls := "InASackToTheRopeModel", name := "withRope", desc := "(I)I" } : Jvm.MethodName)) ∈ lw_all := lw_g (lw_at lw_m8 95 rfl) rfl
theorem q1869 : (Jvm.Cond.code ({ cls := "InASackToTheRopeModel", name := "withRope", desc := "(I)I" } : Jvm.MethodName) prog_23_method_53_code (3 : Nat) (Option.some Jvm.ClassFile.FieldType.int)) ∈ lw_all := lw_g (lw_at lw_m8 96 rfl) rfl
theorem q1871 : (Jvm.Cond.instanceMethod ({ cls := "InASackToTheRopeModel", name := "wins", desc := "(I)I" } : Jvm.MethodName)) ∈ lw_all := lw_g (lw_at lw_m8 98 rfl) rfl
theorem q1872 : (Jvm.Cond.selects "InASackToTheRopeModel" ({ cls := "InASackToTheRopeModel", name := "wins", desc := "(I)I" } : Jvm.MethodName) ({ cls := "InASackToTheRopeModel", name := "wins", desc := "(I)I" } : Jvm.MethodName)) ∈ lw_all := lw_g (lw_at lw_m8 99 rfl) rfl
theorem q1873 : (Jvm.Cond.code ({ cls := "InASackToTheRopeModel", name := "wins", desc := "(I)I" } : Jvm.MethodName) prog_23_method_63_code (6 : Nat) (Option.some Jvm.ClassFile.FieldType.int)) ∈ lw_all := lw_g (lw_at lw_m8 100 rfl) rfl
theorem q1874 : (Jvm.Cond.methodLink "InASackToTheRopeModel" (296 : Nat) ({ cls := "InASackToTheRopeModel", name := "firstIn", desc := "()I" } : Jvm.MethodName)) ∈ lw_all := lw_g (lw_at lw_m8 101 rfl) rfl
theorem q1875 : (Jvm.Cond.privateMethod ({ cls := "InASackToTheRopeModel", name := "firstIn", desc := "()I" } : Jvm.MethodName)) ∈ lw_tbl := lw_at lw_m8 102 rfl
theorem q1876 : (Jvm.Cond.instanceMethod ({ cls := "InASackToTheRopeModel", name := "firstIn", desc := "()I" } : Jvm.MethodName)) ∈ lw_all := lw_g (lw_at lw_m8 103 rfl) rfl
theorem q1877 : (Jvm.Cond.code ({ cls := "InASackToTheRopeModel", name := "firstIn", desc := "()I" } : Jvm.MethodName) prog_23_method_62_code (3 : Nat) (Option.some Jvm.ClassFile.FieldType.int)) ∈ lw_all := lw_g (lw_at lw_m8 104 rfl) rfl
theorem q1879 : (Jvm.Cond.instanceMethod ({ cls := "InASackToTheRopeModel", name := "best", desc := "(II)I" } : Jvm.MethodName)) ∈ lw_all := lw_g (lw_at lw_m8 106 rfl) rfl
theorem q1880 : (Jvm.Cond.selects "InASackToTheRopeModel" ({ cls := "InASackToTheRopeModel", name := "best", desc := "(II)I" } : Jvm.MethodName) ({ cls := "InASackToTheRopeModel", name := "best", desc := "(II)I" } : Jvm.MethodName)) ∈ lw_all := lw_g (lw_at lw_m8 107 rfl) rfl
theorem q1881 : (Jvm.Cond.code ({ cls := "InASackToTheRopeModel", name := "best", desc := "(II)I" } : Jvm.MethodName) prog_23_method_66_code (3 : Nat) (Option.some Jvm.ClassFile.FieldType.int)) ∈ lw_all := lw_g (lw_at lw_m8 108 rfl) rfl
theorem q1882 : (Jvm.Cond.methodLink "InASackToTheRopeModel" (305 : Nat) ({ cls := "InASackToTheRopeModel", name := "how", desc := "(I)I" } : Jvm.MethodName)) ∈ lw_all := lw_g (lw_at lw_m8 109 rfl) rfl
theorem q1883 : (Jvm.Cond.privateMethod ({ cls := "InASackToTheRopeModel", name := "how", desc := "(I)I" } : Jvm.MethodName)) ∈ lw_tbl := lw_at lw_m8 110 rfl
theorem q1884 : (Jvm.Cond.instanceMethod ({ cls := "InASackToTheRopeModel", name := "how", desc := "(I)I" } : Jvm.MethodName)) ∈ lw_all := lw_g (lw_at lw_m8 111 rfl) rfl
theorem q1885 : (Jvm.Cond.code ({ cls := "InASackToTheRopeModel", name := "how", desc := "(I)I" } : Jvm.MethodName) prog_23_method_64_code (4 : Nat) (Option.some Jvm.ClassFile.FieldType.int)) ∈ lw_all := lw_g (lw_at lw_m8 112 rfl) rfl
theorem q1886 : (Jvm.Cond.methodLink "InASackToTheRopeModel" (299 : Nat) ({ cls := "InASackToTheRopeModel", name := "inAs", desc := "(II)I" } : Jvm.MethodName)) ∈ lw_all := lw_g (lw_at lw_m8 113 rfl) rfl
theorem q1887 : (Jvm.Cond.privateMethod ({ cls := "InASackToTheRopeModel", name := "inAs", desc := "(II)I" } : Jvm.MethodName)) ∈ lw_tbl := lw_at lw_m8 114 rfl
theorem q1888 : (Jvm.Cond.instanceMethod ({ cls := "InASackToTheRopeModel", name := "inAs", desc := "(II)I" } : Jvm.MethodName)) ∈ lw_all := lw_g (lw_at lw_m8 115 rfl) rfl
theorem q1889 : (Jvm.Cond.code ({ cls := "InASackToTheRopeModel", name := "inAs", desc := "(II)I" } : Jvm.MethodName) prog_23_method_57_code (3 : Nat) (Option.some Jvm.ClassFile.FieldType.int)) ∈ lw_all := lw_g (lw_at lw_m8 116 rfl) rfl
theorem q1890 : (Jvm.Cond.methodLink "InASackToTheRopeModel" (308 : Nat) ({ cls := "InASackToTheRopeModel", name := "bestSack", desc := "(I)I" } : Jvm.MethodName)) ∈ lw_all := lw_g (lw_at lw_m8 117 rfl) rfl
theorem q1891 : (Jvm.Cond.privateMethod ({ cls := "InASackToTheRopeModel", name := "bestSack", desc := "(I)I" } : Jvm.MethodName)) ∈ lw_tbl := lw_at lw_m8 118 rfl
theorem q1892 : (Jvm.Cond.instanceMethod ({ cls := "InASackToTheRopeModel", name := "bestSack", desc := "(I)I" } : Jvm.MethodName)) ∈ lw_all := lw_g (lw_at lw_m8 119 rfl) rfl
theorem q1893 : (Jvm.Cond.code ({ cls := "InASackToTheRopeModel", name := "bestSack", desc := "(I)I" } : Jvm.MethodName) prog_23_method_65_code (4 : Nat) (Option.some Jvm.ClassFile.FieldType.int)) ∈ lw_all := lw_g (lw_at lw_m8 120 rfl) rfl
theorem q1894 : (Jvm.Cond.methodLink "InASackToTheRopeModel" (302 : Nat) ({ cls := "InASackToTheRopeModel", name := "inWith", desc := "(II)I" } : Jvm.MethodName)) ∈ lw_all := lw_g (lw_at lw_m8 121 rfl) rfl
theorem q1895 : (Jvm.Cond.privateMethod ({ cls := "InASackToTheRopeModel", name := "inWith", desc := "(II)I" } : Jvm.MethodName)) ∈ lw_tbl := lw_at lw_m8 122 rfl
theorem q1896 : (Jvm.Cond.instanceMethod ({ cls := "InASackToTheRopeModel", name := "inWith", desc := "(II)I" } : Jvm.MethodName)) ∈ lw_all := lw_g (lw_at lw_m8 123 rfl) rfl
theorem q1897 : (Jvm.Cond.code ({ cls := "InASackToTheRopeModel", name := "inWith", desc := "(II)I" } : Jvm.MethodName) prog_23_method_56_code (3 : Nat) (Option.some Jvm.ClassFile.FieldType.int)) ∈ lw_all := lw_g (lw_at lw_m8 124 rfl) rfl
theorem q1898 : (Jvm.Cond.methodLink "InASackToTheRopeModel" (311 : Nat) ({ cls := "InASackToTheRopeModel", name := "inRolling", desc := "(II)I" } : Jvm.MethodName)) ∈ lw_all := lw_g (lw_at lw_m8 125 rfl) rfl
theorem q1899 : (Jvm.Cond.privateMethod ({ cls := "InASackToTheRopeModel", name := "inRolling", desc := "(II)I" } : Jvm.MethodName)) ∈ lw_tbl := lw_at lw_m8 126 rfl
theorem q1900 : (Jvm.Cond.instanceMethod ({ cls := "InASackToTheRopeModel", name := "inRolling", desc := "(II)I" } : Jvm.MethodName)) ∈ lw_all := lw_g (lw_at lw_m8 127 rfl) rfl
theorem q1901 : (Jvm.Cond.code ({ cls := "InASackToTheRopeModel", name := "inRolling", desc := "(II)I" } : Jvm.MethodName) prog_23_method_59_code (3 : Nat) (Option.some Jvm.ClassFile.FieldType.int)) ∈ lw_all := lw_g (lw_at lw_m8 128 rfl) rfl
theorem q1903 : (Jvm.Cond.instanceMethod ({ cls := "InASackToTheRopeModel", name := "given", desc := "(III)I" } : Jvm.MethodName)) ∈ lw_all := lw_g (lw_at lw_m8 130 rfl) rfl
theorem q1904 : (Jvm.Cond.selects "InASackToTheRopeModel" ({ cls := "InASackToTheRopeModel", name := "given", desc := "(III)I" } : Jvm.MethodName) ({ cls := "InASackToTheRopeModel", name := "given", desc := "(III)I" } : Jvm.MethodName)) ∈ lw_all := lw_g (lw_at lw_m8 131 rfl) rfl
theorem q1905 : (Jvm.Cond.code ({ cls := "InASackToTheRopeModel", name := "given", desc := "(III)I" } : Jvm.MethodName) prog_23_method_68_code (6 : Nat) (Option.some Jvm.ClassFile.FieldType.int)) ∈ lw_all := lw_g (lw_at lw_m8 132 rfl) rfl
theorem q1906 : (Jvm.Cond.methodLink "InASackToTheRopeModel" (317 : Nat) ({ cls := "InASackToTheRopeModel", name := "gives", desc := "(IIIIIII)V" } : Jvm.MethodName)) ∈ lw_all := lw_g (lw_at lw_m8 133 rfl) rfl
theorem q1907 : (Jvm.Cond.privateMethod ({ cls := "InASackToTheRopeModel", name := "gives", desc := "(IIIIIII)V" } : Jvm.MethodName)) ∈ lw_tbl := lw_at lw_m8 134 rfl
theorem q1908 : (Jvm.Cond.instanceMethod ({ cls := "InASackToTheRopeModel", name := "gives", desc := "(IIIIIII)V" } : Jvm.MethodName)) ∈ lw_all := lw_g (lw_at lw_m8 135 rfl) rfl
theorem q1909 : (Jvm.Cond.code ({ cls := "InASackToTheRopeModel", name := "gives", desc := "(IIIIIII)V" } : Jvm.MethodName) prog_23_method_67_code (10 : Nat) (Option.none : Option Jvm.ClassFile.FieldType)) ∈ lw_all := lw_g (lw_at lw_m8 136 rfl) rfl
theorem q1911 : (Jvm.Cond.instanceMethod ({ cls := "InASackToTheRopeModel", name := "two", desc := "(III)I" } : Jvm.MethodName)) ∈ lw_all := lw_g (lw_at lw_m8 138 rfl) rfl
theorem q1912 : (Jvm.Cond.selects "InASackToTheRopeModel" ({ cls := "InASackToTheRopeModel", name := "two", desc := "(III)I" } : Jvm.MethodName) ({ cls := "InASackToTheRopeModel", name := "two", desc := "(III)I" } : Jvm.MethodName)) ∈ lw_all := lw_g (lw_at lw_m8 139 rfl) rfl
theorem q1913 : (Jvm.Cond.code ({ cls := "InASackToTheRopeModel", name := "two", desc := "(III)I" } : Jvm.MethodName) prog_23_method_70_code (4 : Nat) (Option.some Jvm.ClassFile.FieldType.int)) ∈ lw_all := lw_g (lw_at lw_m8 140 rfl) rfl
theorem q1914 : (Jvm.Cond.methodLink "InASackToTheRopeModel" (321 : Nat) ({ cls := "InASackToTheRopeModel", name := "twoIn", desc := "(III)I" } : Jvm.MethodName)) ∈ lw_all := lw_g (lw_at lw_m8 141 rfl) rfl
theorem q1915 : (Jvm.Cond.privateMethod ({ cls := "InASackToTheRopeModel", name := "twoIn", desc := "(III)I" } : Jvm.MethodName)) ∈ lw_tbl := lw_at lw_m8 142 rfl
theorem q1916 : (Jvm.Cond.instanceMethod ({ cls := "InASackToTheRopeModel", name := "twoIn", desc := "(III)I" } : Jvm.MethodName)) ∈ lw_all := lw_g (lw_at lw_m8 143 rfl) rfl
theorem q1917 : (Jvm.Cond.code ({ cls := "InASackToTheRopeModel", name := "twoIn", desc := "(III)I" } : Jvm.MethodName) prog_23_method_69_code (4 : Nat) (Option.some Jvm.ClassFile.FieldType.int)) ∈ lw_all := lw_g (lw_at lw_m8 144 rfl) rfl
theorem q1919 : (Jvm.Cond.instanceMethod ({ cls := "InASackToTheRopeModel", name := "pair", desc := "()I" } : Jvm.MethodName)) ∈ lw_all := lw_g (lw_at lw_m8 146 rfl) rfl
theorem q1920 : (Jvm.Cond.selects "InASackToTheRopeModel" ({ cls := "InASackToTheRopeModel", name := "pair", desc := "()I" } : Jvm.MethodName) ({ cls := "InASackToTheRopeModel", name := "pair", desc := "()I" } : Jvm.MethodName)) ∈ lw_all := lw_g (lw_at lw_m8 147 rfl) rfl
theorem q1921 : (Jvm.Cond.code ({ cls := "InASackToTheRopeModel", name := "pair", desc := "()I" } : Jvm.MethodName) prog_23_method_71_code (6 : Nat) (Option.some Jvm.ClassFile.FieldType.int)) ∈ lw_all := lw_g (lw_at lw_m8 148 rfl) rfl
theorem q1923 : (Jvm.Cond.instanceMethod ({ cls := "InASackToTheRopeModel", name := "start", desc := "(II)I" } : Jvm.MethodName)) ∈ lw_all := lw_g (lw_at lw_m8 150 rfl) rfl
theorem q1924 : (Jvm.Cond.selects "InASackToTheRopeModel" ({ cls := "InASackToTheRopeModel", name := "start", desc := "(II)I" } : Jvm.MethodName) ({ cls := "InASackToTheRopeModel", name := "start", desc := "(II)I" } : Jvm.MethodName)) ∈ lw_all := lw_g (lw_at lw_m8 151 rfl) rfl
theorem q1925 : (Jvm.Cond.code ({ cls := "InASackToTheRopeModel", name := "start", desc := "(II)I" } : Jvm.MethodName) prog_23_method_73_code (3 : Nat) (Option.some Jvm.ClassFile.FieldType.int)) ∈ lw_all := lw_g (lw_at lw_m8 152 rfl) rfl
theorem q1926 : (Jvm.Cond.methodLink "InASackToTheRopeModel" (327 : Nat) ({ cls := "InASackToTheRopeModel", name := "startOf", desc := "(II)I" } : Jvm.MethodName)) ∈ lw_all := lw_g (lw_at lw_m8 153 rfl) rfl
theorem q1927 : (Jvm.Cond.privateMethod ({ cls := "InASackToTheRopeModel", name := "startOf", desc := "(II)I" } : Jvm.MethodName)) ∈ lw_tbl := lw_at lw_m8 154 rfl
theorem q1928 : (Jvm.Cond.instanceMethod ({ cls := "InASackToTheRopeModel", name := "startOf", desc := "(II)I" } : Jvm.MethodName)) ∈ lw_all := lw_g (lw_at lw_m8 155 rfl) rfl
theorem q1929 : (Jvm.Cond.code ({ cls := "InASackToTheRopeModel", name := "startOf", desc := "(II)I" } : Jvm.MethodName) prog_23_method_72_code (4 : Nat) (Option.some Jvm.ClassFile.FieldType.int)) ∈ lw_all := lw_g (lw_at lw_m8 156 rfl) rfl
theorem q1930 : (Jvm.Cond.methodLink "InASackToTheRopeModel" (324 : Nat) ({ cls := "InASackToTheRopeModel", name := "inFrom", desc := "(II)I" } : Jvm.MethodName)) ∈ lw_all := lw_g (lw_at lw_m8 157 rfl) rfl
theorem q1931 : (Jvm.Cond.privateMethod ({ cls := "InASackToTheRopeModel", name := "inFrom", desc := "(II)I" } : Jvm.MethodName)) ∈ lw_tbl := lw_at lw_m8 158 rfl
theorem q1932 : (Jvm.Cond.instanceMethod ({ cls := "InASackToTheRopeModel", name := "inFrom", desc := "(II)I" } : Jvm.MethodName)) ∈ lw_all := lw_g (lw_at lw_m8 159 rfl) rfl
theorem q1933 : (Jvm.Cond.code ({ cls := "InASackToTheRopeModel", name := "inFrom", desc := "(II)I" } : Jvm.MethodName) prog_23_method_58_code (3 : Nat) (Option.some Jvm.ClassFile.FieldType.int)) ∈ lw_all := lw_g (lw_at lw_m8 160 rfl) rfl
theorem q1934 : (Jvm.Cond.methodLink "InASackToTheRopeModel" (330 : Nat) ({ cls := "InASackToTheRopeModel", name := "noTen", desc := "(I)I" } : Jvm.MethodName)) ∈ lw_all := lw_g (lw_at lw_m8 161 rfl) rfl
theorem q1935 : (Jvm.Cond.privateMethod ({ cls := "InASackToTheRopeModel", name := "noTen", desc := "(I)I" } : Jvm.MethodName)) ∈ lw_tbl := lw_at lw_m8 162 rfl
theorem q1936 : (Jvm.Cond.instanceMethod ({ cls := "InASackToTheRopeModel", name := "noTen", desc := "(I)I" } : Jvm.MethodName)) ∈ lw_all := lw_g (lw_at lw_m8 163 rfl) rfl
theorem q1937 : (Jvm.Cond.code ({ cls := "InASackToTheRopeModel", name := "noTen", desc := "(I)I" } : Jvm.MethodName) prog_23_method_3_code (2 : Nat) (Option.some Jvm.ClassFile.FieldType.int)) ∈ lw_all := lw_g (lw_at lw_m8 164 rfl) rfl
theorem q1939 : (Jvm.Cond.instanceMethod ({ cls := "InASackToTheRopeModel", name := "atOnce", desc := "()I" } : Jvm.MethodName)) ∈ lw_all := lw_g (lw_at lw_m8 166 rfl) rfl
theorem q1940 : (Jvm.Cond.selects "InASackToTheRopeModel" ({ cls := "InASackToTheRopeModel", name := "atOnce", desc := "()I" } : Jvm.MethodName) ({ cls := "InASackToTheRopeModel", name := "atOnce", desc := "()I" } : Jvm.MethodName)) ∈ lw_all := lw_g (lw_at lw_m8 167 rfl) rfl
theorem q1941 : (Jvm.Cond.code ({ cls := "InASackToTheRopeModel", name := "atOnce", desc := "()I" } : Jvm.MethodName) prog_23_method_74_code (5 : Nat) (Option.some Jvm.ClassFile.FieldType.int)) ∈ lw_all := lw_g (lw_at lw_m8 168 rfl) rfl
theorem q1943 : (Jvm.Cond.instanceMethod ({ cls := "InASackToTheRopeModel", name := "heats", desc := "(II)I" } : Jvm.MethodName)) ∈ lw_all := lw_g (lw_at lw_m8 170 rfl) rfl
theorem q1944 : (Jvm.Cond.selects "InASackToTheRopeModel" ({ cls := "InASackToTheRopeModel", name := "heats", desc := "(II)I" } : Jvm.MethodName) ({ cls := "InASackToTheRopeModel", name := "heats", desc := "(II)I" } : Jvm.MethodName)) ∈ lw_all := lw_g (lw_at lw_m8 171 rfl) rfl
theorem q1945 : (Jvm.Cond.code ({ cls := "InASackToTheRopeModel", name := "heats", desc := "(II)I" } : Jvm.MethodName) prog_23_method_75_code (9 : Nat) (Option.some Jvm.ClassFile.FieldType.int)) ∈ lw_all := lw_g (lw_at lw_m8 172 rfl) rfl
theorem q1947 : (Jvm.Cond.instanceMethod ({ cls := "InASackToTheRopeModel", name := "legs", desc := "(II)I" } : Jvm.MethodName)) ∈ lw_all := lw_g (lw_at lw_m8 174 rfl) rfl
theorem q1948 : (Jvm.Cond.selects "InASackToTheRopeModel" ({ cls := "InASackToTheRopeModel", name := "legs", desc := "(II)I" } : Jvm.MethodName) ({ cls := "InASackToTheRopeModel", name := "legs", desc := "(II)I" } : Jvm.MethodName)) ∈ lw_all := lw_g (lw_at lw_m8 175 rfl) rfl
theorem q1949 : (Jvm.Cond.code ({ cls := "InASackToTheRopeModel", name := "legs", desc := "(II)I" } : Jvm.MethodName) prog_23_method_76_code (6 : Nat) (Option.some Jvm.ClassFile.FieldType.int)) ∈ lw_all := lw_g (lw_at lw_m8 176 rfl) rfl
theorem q1951 : (Jvm.Cond.instanceMethod ({ cls := "InASackToTheRopeModel", name := "wall", desc := "(I)I" } : Jvm.MethodName)) ∈ lw_all := lw_g (lw_at lw_m8 178 rfl) rfl
theorem q1952 : (Jvm.Cond.selects "InASackToTheRopeModel" ({ cls := "InASackToTheRopeModel", name := "wall", desc := "(I)I" } : Jvm.MethodName) ({ cls := "InASackToTheRopeModel", name := "wall", desc := "(I)I" } : Jvm.MethodName)) ∈ lw_all := lw_g (lw_at lw_m8 179 rfl) rfl
theorem q1953 : (Jvm.Cond.code ({ cls := "InASackToTheRopeModel", name := "wall", desc := "(I)I" } : Jvm.MethodName) prog_23_method_77_code (3 : Nat) (Option.some Jvm.ClassFile.FieldType.int)) ∈ lw_all := lw_g (lw_at lw_m8 180 rfl) rfl
theorem q1955 : (Jvm.Cond.instanceMethod ({ cls := "InASackToTheRopeModel", name := "judge", desc := "(II)I" } : Jvm.MethodName)) ∈ lw_all := lw_g (lw_at lw_m8 182 rfl) rfl
theorem q1956 : (Jvm.Cond.selects "InASackToTheRopeModel" ({ cls := "InASackToTheRopeModel", name := "judge", desc := "(II)I" } : Jvm.MethodName) ({ cls := "InASackToTheRopeModel", name := "judge", desc := "(II)I" } : Jvm.MethodName)) ∈ lw_all := lw_g (lw_at lw_m8 183 rfl) rfl
theorem q1957 : (Jvm.Cond.code ({ cls := "InASackToTheRopeModel", name := "judge", desc := "(II)I" } : Jvm.MethodName) prog_23_method_78_code (8 : Nat) (Option.some Jvm.ClassFile.FieldType.int)) ∈ lw_all := lw_g (lw_at lw_m8 184 rfl) rfl
theorem q1958 : (Jvm.Cond.methodLink "InASackToTheRopeModel" (333 : Nat) ({ cls := "InASackToTheRopeModel", name := "intAt", desc := "(II)I" } : Jvm.MethodName)) ∈ lw_all := lw_g (lw_at lw_m8 185 rfl) rfl
theorem q1959 : (Jvm.Cond.privateMethod ({ cls := "InASackToTheRopeModel", name := "intAt", desc := "(II)I" } : Jvm.MethodName)) ∈ lw_tbl := lw_at lw_m8 186 rfl
theorem q1960 : (Jvm.Cond.instanceMethod ({ cls := "InASackToTheRopeModel", name := "intAt", desc := "(II)I" } : Jvm.MethodName)) ∈ lw_all := lw_g (lw_at lw_m8 187 rfl) rfl
theorem q1961 : (Jvm.Cond.code ({ cls := "InASackToTheRopeModel", name := "intAt", desc := "(II)I" } : Jvm.MethodName) prog_23_method_16_code (3 : Nat) (Option.some Jvm.ClassFile.FieldType.int)) ∈ lw_all := lw_g (lw_at lw_m8 188 rfl) rfl
theorem q1963 : (Jvm.Cond.instanceMethod ({ cls := "InASackToTheRopeModel", name := "meant", desc := "(I)I" } : Jvm.MethodName)) ∈ lw_all := lw_g (lw_at lw_m8 190 rfl) rfl
theorem q1964 : (Jvm.Cond.selects "InASackToTheRopeModel" ({ cls := "InASackToTheRopeModel", name := "meant", desc := "(I)I" } : Jvm.MethodName) ({ cls := "InASackToTheRopeModel", name := "meant", desc := "(I)I" } : Jvm.MethodName)) ∈ lw_all := lw_g (lw_at lw_m8 191 rfl) rfl
theorem q1965 : (Jvm.Cond.code ({ cls := "InASackToTheRopeModel", name := "meant", desc := "(I)I" } : Jvm.MethodName) prog_23_method_79_code (7 : Nat) (Option.some Jvm.ClassFile.FieldType.int)) ∈ lw_all := lw_g (lw_at lw_m8 192 rfl) rfl
theorem q1967 : (Jvm.Cond.instanceMethod ({ cls := "InASackToTheRopeModel", name := "worn", desc := "(II)I" } : Jvm.MethodName)) ∈ lw_all := lw_g (lw_at lw_m8 194 rfl) rfl
theorem q1968 : (Jvm.Cond.selects "InASackToTheRopeModel" ({ cls := "InASackToTheRopeModel", name := "worn", desc := "(II)I" } : Jvm.MethodName) ({ cls := "InASackToTheRopeModel", name := "worn", desc := "(II)I" } : Jvm.MethodName)) ∈ lw_all := lw_g (lw_at lw_m8 195 rfl) rfl
theorem q1969 : (Jvm.Cond.code ({ cls := "InASackToTheRopeModel", name := "worn", desc := "(II)I" } : Jvm.MethodName) prog_23_method_80_code (5 : Nat) (Option.some Jvm.ClassFile.FieldType.int)) ∈ lw_all := lw_g (lw_at lw_m8 196 rfl) rfl
theorem q1971 : (Jvm.Cond.instanceMethod ({ cls := "InASackToTheRopeModel", name := "race", desc := "()I" } : Jvm.MethodName)) ∈ lw_all := lw_g (lw_at lw_m8 198 rfl) rfl
theorem q1972 : (Jvm.Cond.selects "InASackToTheRopeModel" ({ cls := "InASackToTheRopeModel", name := "race", desc := "()I" } : Jvm.MethodName) ({ cls := "InASackToTheRopeModel", name := "race", desc := "()I" } : Jvm.MethodName)) ∈ lw_all := lw_g (lw_at lw_m8 199 rfl) rfl
theorem q1973 : (Jvm.Cond.code ({ cls := "InASackToTheRopeModel", name := "race", desc := "()I" } : Jvm.MethodName) prog_23_method_84_code (1 : Nat) (Option.some Jvm.ClassFile.FieldType.int)) ∈ lw_all := lw_g (lw_at lw_m8 200 rfl) rfl
theorem q1974 : (Jvm.Cond.methodLink "InASackToTheRopeModel" (343 : Nat) ({ cls := "InASackToTheRopeModel", name := "raced", desc := "()I" } : Jvm.MethodName)) ∈ lw_all := lw_g (lw_at lw_m8 201 rfl) rfl
theorem q1975 : (Jvm.Cond.privateMethod ({ cls := "InASackToTheRopeModel", name := "raced", desc := "()I" } : Jvm.MethodName)) ∈ lw_tbl := lw_at lw_m8 202 rfl
theorem q1976 : (Jvm.Cond.instanceMethod ({ cls := "InASackToTheRopeModel", name := "raced", desc := "()I" } : Jvm.MethodName)) ∈ lw_all := lw_g (lw_at lw_m8 203 rfl) rfl
theorem q1977 : (Jvm.Cond.code ({ cls := "InASackToTheRopeModel", name := "raced", desc := "()I" } : Jvm.MethodName) prog_23_method_83_code (3 : Nat) (Option.some Jvm.ClassFile.FieldType.int)) ∈ lw_all := lw_g (lw_at lw_m8 204 rfl) rfl
theorem q1978 : (Jvm.Cond.methodLink "InASackToTheRopeModel" (340 : Nat) ({ cls := "InASackToTheRopeModel", name := "secondInTruth", desc := "()V" } : Jvm.MethodName)) ∈ lw_all := lw_g (lw_at lw_m8 205 rfl) rfl
theorem q1979 : (Jvm.Cond.privateMethod ({ cls := "InASackToTheRopeModel", name := "secondInTruth", desc := "()V" } : Jvm.MethodName)) ∈ lw_tbl := lw_at lw_m8 206 rfl
theorem q1980 : (Jvm.Cond.instanceMethod ({ cls := "InASackToTheRopeModel", name := "secondInTruth", desc := "()V" } : Jvm.MethodName)) ∈ lw_all := lw_g (lw_at lw_m8 207 rfl) rfl
theorem q1981 : (Jvm.Cond.code ({ cls := "InASackToTheRopeModel", name := "secondInTruth", desc := "()V" } : Jvm.MethodName) prog_23_method_82_code (2 : Nat) (Option.none : Option Jvm.ClassFile.FieldType)) ∈ lw_all := lw_g (lw_at lw_m8 208 rfl) rfl
theorem q1982 : (Jvm.Cond.methodLink "InASackToTheRopeModel" (337 : Nat) ({ cls := "InASackToTheRopeModel", name := "draw", desc := "(I)I" } : Jvm.MethodName)) ∈ lw_all := lw_g (lw_at lw_m8 209 rfl) rfl
theorem q1983 : (Jvm.Cond.privateMethod ({ cls := "InASackToTheRopeModel", name := "draw", desc := "(I)I" } : Jvm.MethodName)) ∈ lw_tbl := lw_at lw_m8 210 rfl
theorem q1984 : (Jvm.Cond.instanceMethod ({ cls := "InASackToTheRopeModel", name := "draw", desc := "(I)I" } : Jvm.MethodName)) ∈ lw_all := lw_g (lw_at lw_m8 211 rfl) rfl
theorem q1985 : (Jvm.Cond.code ({ cls := "InASackToTheRopeModel", name := "draw", desc := "(I)I" } : Jvm.MethodName) prog_23_method_81_code (2 : Nat) (Option.some Jvm.ClassFile.FieldType.int)) ∈ lw_all := lw_g (lw_at lw_m8 212 rfl) rfl
theorem q1986 : (Jvm.Cond.constant "InASackToTheRopeModel" (336 : Nat) (1103515245 : Int32)) ∈ lw_all := lw_g (lw_at lw_m8 213 rfl) rfl
theorem q1988 : (Jvm.Cond.instanceMethod ({ cls := "InASackToTheRopeModel", name := "summer", desc := "(II)I" } : Jvm.MethodName)) ∈ lw_all := lw_g (lw_at lw_m8 215 rfl) rfl
theorem q1989 : (Jvm.Cond.selects "InASackToTheRopeModel" ({ cls := "InASackToTheRopeModel", name := "summer", desc := "(II)I" } : Jvm.MethodName) ({ cls := "InASackToTheRopeModel", name := "summer", desc := "(II)I" } : Jvm.MethodName)) ∈ lw_all := lw_g (lw_at lw_m8 216 rfl) rfl
theorem q1990 : (Jvm.Cond.code ({ cls := "InASackToTheRopeModel", name := "summer", desc := "(II)I" } : Jvm.MethodName) prog_23_method_85_code (5 : Nat) (Option.some Jvm.ClassFile.FieldType.int)) ∈ lw_all := lw_g (lw_at lw_m8 217 rfl) rfl
theorem q1992 : (Jvm.Cond.instanceMethod ({ cls := "InASackToTheRopeModel", name := "seed", desc := "(I)I" } : Jvm.MethodName)) ∈ lw_all := lw_g (lw_at lw_m8 219 rfl) rfl
theorem q1993 : (Jvm.Cond.selects "InASackToTheRopeModel" ({ cls := "InASackToTheRopeModel", name := "seed", desc := "(I)I" } : Jvm.MethodName) ({ cls := "InASackToTheRopeModel", name := "seed", desc := "(I)I" } : Jvm.MethodName)) ∈ lw_all := lw_g (lw_at lw_m8 220 rfl) rfl
theorem q1994 : (Jvm.Cond.code ({ cls := "InASackToTheRopeModel", name := "seed", desc := "(I)I" } : Jvm.MethodName) prog_23_method_86_code (3 : Nat) (Option.some Jvm.ClassFile.FieldType.int)) ∈ lw_all := lw_g (lw_at lw_m8 221 rfl) rfl
theorem q1996 : (Jvm.Cond.instanceMethod ({ cls := "InASackToTheRopeModel", name := "act", desc := "(III)I" } : Jvm.MethodName)) ∈ lw_all := lw_g (lw_at lw_m8 223 rfl) rfl
theorem q1997 : (Jvm.Cond.selects "InASackToTheRopeModel" ({ cls := "InASackToTheRopeModel", name := "act", desc := "(III)I" } : Jvm.MethodName) ({ cls := "InASackToTheRopeModel", name := "act", desc := "(III)I" } : Jvm.MethodName)) ∈ lw_all := lw_g (lw_at lw_m8 224 rfl) rfl
theorem q1998 : (Jvm.Cond.code ({ cls := "InASackToTheRopeModel", name := "act", desc := "(III)I" } : Jvm.MethodName) prog_23_method_91_code (4 : Nat) (Option.some Jvm.ClassFile.FieldType.int)) ∈ lw_all := lw_g (lw_at lw_m8 225 rfl) rfl
theorem q1999 : (Jvm.Cond.methodLink "InASackToTheRopeModel" (352 : Nat) ({ cls := "InASackToTheRopeModel", name := "hopping", desc := "(II)I" } : Jvm.MethodName)) ∈ lw_all := lw_g (lw_at lw_m8 226 rfl) rfl
theorem q2000 : (Jvm.Cond.privateMethod ({ cls := "InASackToTheRopeModel", name := "hopping", desc := "(II)I" } : Jvm.MethodName)) ∈ lw_tbl := lw_at lw_m8 227 rfl
theorem q2001 : (Jvm.Cond.instanceMethod ({ cls := "InASackToTheRopeModel", name := "hopping", desc := "(II)I" } : Jvm.MethodName)) ∈ lw_all := lw_g (lw_at lw_m8 228 rfl) rfl
theorem q2002 : (Jvm.Cond.code ({ cls := "InASackToTheRopeModel", name := "hopping", desc := "(II)I" } : Jvm.MethodName) prog_23_method_88_code (5 : Nat) (Option.some Jvm.ClassFile.FieldType.int)) ∈ lw_all := lw_g (lw_at lw_m8 229 rfl) rfl
theorem q2003 : (Jvm.Cond.methodLink "InASackToTheRopeModel" (349 : Nat) ({ cls := "InASackToTheRopeModel", name := "body", desc := "(I)V" } : Jvm.MethodName)) ∈ lw_all := lw_g (lw_at lw_m8 230 rfl) rfl
theorem q2004 : (Jvm.Cond.privateMethod ({ cls := "InASackToTheRopeModel", name := "body", desc := "(I)V" } : Jvm.MethodName)) ∈ lw_tbl := lw_at lw_m8 231 rfl
theorem q2005 : (Jvm.Cond.instanceMethod ({ cls := "InASackToTheRopeModel", name := "body", desc := "(I)V" } : Jvm.MethodName)) ∈ lw_all := lw_g (lw_at lw_m8 232 rfl) rfl
theorem q2006 : (Jvm.Cond.code ({ cls := "InASackToTheRopeModel", name := "body", desc := "(I)V" } : Jvm.MethodName) prog_23_method_87_code (2 : Nat) (Option.none : Option Jvm.ClassFile.FieldType)) ∈ lw_all := lw_g (lw_at lw_m8 233 rfl) rfl
theorem q2007 : (Jvm.Cond.methodLink "InASackToTheRopeModel" (355 : Nat) ({ cls := "InASackToTheRopeModel", name := "falling", desc := "(II)I" } : Jvm.MethodName)) ∈ lw_all := lw_g (lw_at lw_m8 234 rfl) rfl
theorem q2008 : (Jvm.Cond.privateMethod ({ cls := "InASackToTheRopeModel", name := "falling", desc := "(II)I" } : Jvm.MethodName)) ∈ lw_tbl := lw_at lw_m8 235 rfl
theorem q2009 : (Jvm.Cond.instanceMethod ({ cls := "InASackToTheRopeModel", name := "falling", desc := "(II)I" } : Jvm.MethodName)) ∈ lw_all := lw_g (lw_at lw_m8 236 rfl) rfl
theorem q2010 : (Jvm.Cond.code ({ cls := "InASackToTheRopeModel", name := "falling", desc := "(II)I" } : Jvm.MethodName) prog_23_method_89_code (7 : Nat) (Option.some Jvm.ClassFile.FieldType.int)) ∈ lw_all := lw_g (lw_at lw_m8 237 rfl) rfl
theorem q2011 : (Jvm.Cond.methodLink "InASackToTheRopeModel" (358 : Nat) ({ cls := "InASackToTheRopeModel", name := "rising", desc := "(II)I" } : Jvm.MethodName)) ∈ lw_all := lw_g (lw_at lw_m8 238 rfl) rfl
theorem q2012 : (Jvm.Cond.privateMethod ({ cls := "InASackToTheRopeModel", name := "rising", desc := "(II)I" } : Jvm.MethodName)) ∈ lw_tbl := lw_at lw_m8 239 rfl
theorem q2013 : (Jvm.Cond.instanceMethod ({ cls := "InASackToTheRopeModel", name := "rising", desc := "(II)I" } : Jvm.MethodName)) ∈ lw_all := lw_g (lw_at lw_m9 0 rfl) rfl
theorem q2014 : (Jvm.Cond.code ({ cls := "InASackToTheRopeModel", name := "rising", desc := "(II)I" } : Jvm.MethodName) prog_23_method_90_code (5 : Nat) (Option.some Jvm.ClassFile.FieldType.int)) ∈ lw_all := lw_g (lw_at lw_m9 1 rfl) rfl
theorem q2016 : (Jvm.Cond.instanceMethod ({ cls := "InASackToTheRopeModel", name := "trace", desc := "(I)I" } : Jvm.MethodName)) ∈ lw_all := lw_g (lw_at lw_m9 3 rfl) rfl
theorem q2017 : (Jvm.Cond.selects "InASackToTheRopeModel" ({ cls := "InASackToTheRopeModel", name := "trace", desc := "(I)I" } : Jvm.MethodName) ({ cls := "InASackToTheRopeModel", name := "trace", desc := "(I)I" } : Jvm.MethodName)) ∈ lw_all := lw_g (lw_at lw_m9 4 rfl) rfl
theorem q2018 : (Jvm.Cond.code ({ cls := "InASackToTheRopeModel", name := "trace", desc := "(I)I" } : Jvm.MethodName) prog_23_method_92_code (2 : Nat) (Option.some Jvm.ClassFile.FieldType.int)) ∈ lw_all := lw_g (lw_at lw_m9 5 rfl) rfl
theorem q2020 : (Jvm.Cond.instanceMethod ({ cls := "InASackToTheRopeModel", name := "image", desc := "()I" } : Jvm.MethodName)) ∈ lw_all := lw_g (lw_at lw_m9 7 rfl) rfl
theorem q2021 : (Jvm.Cond.selects "InASackToTheRopeModel" ({ cls := "InASackToTheRopeModel", name := "image", desc := "()I" } : Jvm.MethodName) ({ cls := "InASackToTheRopeModel", name := "image", desc := "()I" } : Jvm.MethodName)) ∈ lw_all := lw_g (lw_at lw_m9 8 rfl) rfl
theorem q2022 : (Jvm.Cond.code ({ cls := "InASackToTheRopeModel", name := "image", desc := "()I" } : Jvm.MethodName) prog_23_method_93_code (1 : Nat) (Option.some Jvm.ClassFile.FieldType.int)) ∈ lw_all := lw_g (lw_at lw_m9 9 rfl) rfl
theorem q2024 : (Jvm.Cond.instanceMethod ({ cls := "InASackToTheRopeModel", name := "restore", desc := "()I" } : Jvm.MethodName)) ∈ lw_all := lw_g (lw_at lw_m9 11 rfl) rfl
theorem q2025 : (Jvm.Cond.selects "InASackToTheRopeModel" ({ cls := "InASackToTheRopeModel", name := "restore", desc := "()I" } : Jvm.MethodName) ({ cls := "InASackToTheRopeModel", name := "restore", desc := "()I" } : Jvm.MethodName)) ∈ lw_all := lw_g (lw_at lw_m9 12 rfl) rfl
theorem q2026 : (Jvm.Cond.code ({ cls := "InASackToTheRopeModel", name := "restore", desc := "()I" } : Jvm.MethodName) prog_23_method_94_code (2 : Nat) (Option.some Jvm.ClassFile.FieldType.int)) ∈ lw_all := lw_g (lw_at lw_m9 13 rfl) rfl
theorem q2028 : (Jvm.Cond.instanceMethod ({ cls := "InASackToTheRopeModel", name := "status", desc := "(I)I" } : Jvm.MethodName)) ∈ lw_all := lw_g (lw_at lw_m9 15 rfl) rfl
theorem q2029 : (Jvm.Cond.selects "InASackToTheRopeModel" ({ cls := "InASackToTheRopeModel", name := "status", desc := "(I)I" } : Jvm.MethodName) ({ cls := "InASackToTheRopeModel", name := "status", desc := "(I)I" } : Jvm.MethodName)) ∈ lw_all := lw_g (lw_at lw_m9 16 rfl) rfl
theorem q2030 : (Jvm.Cond.code ({ cls := "InASackToTheRopeModel", name := "status", desc := "(I)I" } : Jvm.MethodName) prog_23_method_95_code (2 : Nat) (Option.some Jvm.ClassFile.FieldType.int)) ∈ lw_all := lw_g (lw_at lw_m9 17 rfl) rfl
theorem in_X6 : ∀ w ∈ wsX60, w ∈ lw_all := lw_in wsX60 [1535, 1537, 1539, 1541, 1543, 1545, 1547, 1549, 1551, 1553, 1555, 1557, 1559, 1561, 1563, 1565, 1567, 1569, 1571, 1573, 1575, 1577, 1579, 1581, 1583, 1585, 1587, 1589, 1591, 1593, 1595, 1597, 1599, 1601, 1603, 1605, 1607, 1609, 1611, 1613, 1615, 1617, 1619, 1621, 1623, 1625, 1627, 1629, 1631, 1633, 1635, 1637, 1639, 1641, 1643, 1645, 1647, 1649, 1651] (by decide +kernel) (by decide +kernel)
