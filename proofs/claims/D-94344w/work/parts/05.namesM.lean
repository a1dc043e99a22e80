/-! NotchSticksModel -/
set_option maxRecDepth 100000
def RX6 : String := "NotchSticksModel"
def TX6 : u_T := fun k => match k with
  | 0 => ("NotchSticksModel", "told", "I", false)
  | 1 => ("NotchSticksModel", "state", "I", false)
  | 2 => ("NotchSticksModel", "many", "I", false)
  | 3 => ("NotchSticksModel", "year", "I", false)
  | 4 => ("NotchSticksModel", "deals", "I", false)
  | 5 => ("NotchSticksModel", "facts", "[I", true)
  | 6 => ("NotchSticksModel", "settings", "[I", true)
  | 7 => ("NotchSticksModel", "book", "[I", true)
  | 8 => ("NotchSticksModel", "tape", "[I", true)
  | 9 => ("NotchSticksModel", "taped", "I", false)
  | 10 => ("NotchSticksModel", "spot", "I", false)
  | 11 => ("NotchSticksModel", "from", "I", false)
  | 12 => ("NotchSticksModel", "token", "I", false)
  | 13 => ("NotchSticksModel", "value", "I", false)
  | 14 => ("NotchSticksModel", "words", "[I", true)
  | 15 => ("NotchSticksModel", "lineMany", "[I", true)
  | 16 => ("NotchSticksModel", "lineWord", "[I", true)
  | 17 => ("NotchSticksModel", "lineFrom", "[I", true)
  | 18 => ("NotchSticksModel", "lineTo", "[I", true)
  | 19 => ("NotchSticksModel", "op", "[I", true)
  | 20 => ("NotchSticksModel", "arg", "[I", true)
  | 21 => ("NotchSticksModel", "isLaw", "Z", false)
  | 22 => ("NotchSticksModel", "codes", "I", false)
  | 23 => ("NotchSticksModel", "open", "I", false)
  | 24 => ("NotchSticksModel", "pending", "[I", true)
  | 25 => ("NotchSticksModel", "pendings", "I", false)
  | 26 => ("NotchSticksModel", "readFault", "I", false)
  | 27 => ("NotchSticksModel", "readPlace", "I", false)
  | 28 => ("NotchSticksModel", "faultKind", "I", false)
  | 29 => ("NotchSticksModel", "faultPlace", "I", false)
  | 30 => ("NotchSticksModel", "asked", "[I", true)
  | 31 => ("NotchSticksModel", "stack", "[I", true)
  | 32 => ("NotchSticksModel", "breaks", "I", false)
  | 33 => ("NotchSticksModel", "unlawful", "I", false)
  | 34 => ("NotchSticksModel", "worths", "[J", true)
  | 35 => ("NotchSticksModel", "nextWorths", "[J", true)
  | 36 => ("NotchSticksModel", "ways", "[J", true)
  | 37 => ("NotchSticksModel", "nextWays", "[J", true)
  | 38 => ("NotchSticksModel", "broken", "J", false)
  | 39 => ("NotchSticksModel", "gained", "J", false)
  | 40 => ("NotchSticksModel", "together", "J", false)
  | 41 => ("NotchSticksModel", "twos", "[J", true)
  | 42 => ("NotchSticksModel", "nextTwos", "[J", true)
  | 43 => ("NotchSticksModel", "oneGain", "J", false)
  | 44 => ("NotchSticksModel", "otherGain", "J", false)
  | 45 => ("NotchSticksModel", "firstSum", "J", false)
  | 46 => ("NotchSticksModel", "secondSum", "J", false)
  | 47 => ("NotchSticksModel", "firstGains", "[J", true)
  | 48 => ("NotchSticksModel", "secondGains", "[J", true)
  | 49 => ("NotchSticksModel", "isPutting", "Z", false)
  | 50 => ("NotchSticksModel", "asideAt", "I", false)
  | 51 => ("NotchSticksModel", "aside", "[I", true)
  | 52 => ("NotchSticksModel", "hasImage", "Z", false)
  | 53 => ("NotchSticksModel", "images", "[I", true)
  | 54 => ("NotchSticksModel", "imageTexts", "[I", true)
  | _ => ("NotchSticksModel", "textAt", "I", false)
def tyX6 : Nat → FieldType := fun k => match k with
  | 0 => .int
  | 1 => .int
  | 2 => .int
  | 3 => .int
  | 4 => .int
  | 5 => .array .int
  | 6 => .array .int
  | 7 => .array .int
  | 8 => .array .int
  | 9 => .int
  | 10 => .int
  | 11 => .int
  | 12 => .int
  | 13 => .int
  | 14 => .array .int
  | 15 => .array .int
  | 16 => .array .int
  | 17 => .array .int
  | 18 => .array .int
  | 19 => .array .int
  | 20 => .array .int
  | 21 => .boolean
  | 22 => .int
  | 23 => .int
  | 24 => .array .int
  | 25 => .int
  | 26 => .int
  | 27 => .int
  | 28 => .int
  | 29 => .int
  | 30 => .array .int
  | 31 => .array .int
  | 32 => .int
  | 33 => .int
  | 34 => .array .long
  | 35 => .array .long
  | 36 => .array .long
  | 37 => .array .long
  | 38 => .long
  | 39 => .long
  | 40 => .long
  | 41 => .array .long
  | 42 => .array .long
  | 43 => .long
  | 44 => .long
  | 45 => .long
  | 46 => .long
  | 47 => .array .long
  | 48 => .array .long
  | 49 => .boolean
  | 50 => .int
  | 51 => .array .int
  | 52 => .boolean
  | 53 => .array .int
  | 54 => .array .int
  | _ => .int
abbrev wsX60 : List Cond := u_ws RX6 TX6 56
set_option maxRecDepth 100000 in
theorem nmX6 : ∀ a, a < 56 → ∀ b, b < 56 → a ≠ b → (TX6 a).2.1 ≠ (TX6 b).2.1 := by decide +kernel
set_option maxRecDepth 100000 in
theorem tyX6_ok : ∀ k, k < 56 → parseFieldDescriptor (TX6 k).2.2.1 = some (tyX6 k) := by decide +kernel
abbrev cX6_init : ByteArray := prog_17_method_1_code
def yX6_init : MethodName := ⟨RX6, "<init>", "()V"⟩
def dkwX6_init_44 : List UInt8 := [17, 20, 80, 188, 10, 181, 0, 87, 177]
abbrev dktX6_init_44 : List UInt8 := dkwX6_init_44 ++ []
def dkwX6_init_43 : List UInt8 := [188, 11, 181, 0, 78, 42, 17, 10, 40, 188, 10, 181, 0, 81, 42, 17, 10, 40, 188, 10, 181, 0, 84, 42]
abbrev dktX6_init_43 : List UInt8 := dkwX6_init_43 ++ dktX6_init_44
def dkwX6_init_42 : List UInt8 := [181, 0, 69, 42, 16, 81, 188, 11, 181, 0, 72, 42, 17, 0, 196, 188, 11, 181, 0, 75, 42, 17, 0, 196]
abbrev dktX6_init_42 : List UInt8 := dkwX6_init_42 ++ dktX6_init_43
def dkwX6_init_41 : List UInt8 := [181, 0, 60, 42, 16, 25, 188, 11, 181, 0, 63, 42, 16, 25, 188, 11, 181, 0, 66, 42, 16, 81, 188, 11]
abbrev dktX6_init_41 : List UInt8 := dkwX6_init_41 ++ dktX6_init_42
def dkwX6_init_40 : List UInt8 := [42, 17, 1, 164, 188, 10, 181, 0, 53, 42, 16, 25, 188, 11, 181, 0, 56, 42, 16, 25, 188, 11]
abbrev dktX6_init_40 : List UInt8 := dkwX6_init_40 ++ dktX6_init_41
def dkwX6_init_39 : List UInt8 := [181, 0, 40, 42, 16, 40, 188, 10, 181, 0, 43, 42, 2, 181, 0, 46, 42, 16, 15, 188, 10, 181, 0, 50]
abbrev dktX6_init_39 : List UInt8 := dkwX6_init_39 ++ dktX6_init_40
def dkwX6_init_38 : List UInt8 := [16, 112, 188, 10, 181, 0, 34, 42, 17, 10, 240, 188, 10, 181, 0, 37, 42, 17, 10, 240, 188, 10]
abbrev dktX6_init_38 : List UInt8 := dkwX6_init_38 ++ dktX6_init_39
def dkwX6_init_37 : List UInt8 := [16, 7, 188, 10, 181, 0, 25, 42, 16, 112, 188, 10, 181, 0, 28, 42, 16, 112, 188, 10, 181, 0, 31, 42]
abbrev dktX6_init_37 : List UInt8 := dkwX6_init_37 ++ dktX6_init_38
def dkwX6_init_36 : List UInt8 := [79, 89, 16, 119, 16, 115, 79, 89, 16, 120, 16, 101, 79, 89, 16, 121, 16, 32, 79, 181, 0, 22, 42]
abbrev dktX6_init_36 : List UInt8 := dkwX6_init_36 ++ dktX6_init_37
def dkwX6_init_35 : List UInt8 := [79, 89, 16, 115, 16, 32, 79, 89, 16, 116, 16, 112, 79, 89, 16, 117, 16, 117, 79, 89, 16, 118, 16, 114]
abbrev dktX6_init_35 : List UInt8 := dkwX6_init_35 ++ dktX6_init_36
def dkwX6_init_34 : List UInt8 := [79, 89, 16, 111, 16, 119, 79, 89, 16, 112, 16, 102, 79, 89, 16, 113, 16, 117, 79, 89, 16, 114, 16, 108]
abbrev dktX6_init_34 : List UInt8 := dkwX6_init_34 ++ dktX6_init_35
def dkwX6_init_33 : List UInt8 := [79, 89, 16, 107, 16, 32, 79, 89, 16, 108, 16, 111, 79, 89, 16, 109, 16, 108, 79, 89, 16, 110, 16, 97]
abbrev dktX6_init_33 : List UInt8 := dkwX6_init_33 ++ dktX6_init_34
def dkwX6_init_32 : List UInt8 := [79, 89, 16, 103, 16, 119, 79, 89, 16, 104, 16, 102, 79, 89, 16, 105, 16, 117, 79, 89, 16, 106, 16, 108]
abbrev dktX6_init_32 : List UInt8 := dkwX6_init_32 ++ dktX6_init_33
def dkwX6_init_31 : List UInt8 := [79, 89, 16, 99, 16, 101, 79, 89, 16, 100, 16, 32, 79, 89, 16, 101, 16, 108, 79, 89, 16, 102, 16, 97]
abbrev dktX6_init_31 : List UInt8 := dkwX6_init_31 ++ dktX6_init_32
def dkwX6_init_30 : List UInt8 := [79, 89, 16, 95, 16, 32, 79, 89, 16, 96, 16, 111, 79, 89, 16, 97, 16, 97, 79, 89, 16, 98, 16, 103]
abbrev dktX6_init_30 : List UInt8 := dkwX6_init_30 ++ dktX6_init_31
def dkwX6_init_29 : List UInt8 := [79, 89, 16, 91, 16, 108, 79, 89, 16, 92, 16, 111, 79, 89, 16, 93, 16, 115, 79, 89, 16, 94, 16, 116]
abbrev dktX6_init_29 : List UInt8 := dkwX6_init_29 ++ dktX6_init_30
def dkwX6_init_28 : List UInt8 := [79, 89, 16, 87, 16, 103, 79, 89, 16, 88, 16, 101, 79, 89, 16, 89, 16, 32, 79, 89, 16, 90, 16, 111]
abbrev dktX6_init_28 : List UInt8 := dkwX6_init_28 ++ dktX6_init_29
def dkwX6_init_27 : List UInt8 := [79, 89, 16, 83, 16, 111, 79, 89, 16, 84, 16, 108, 79, 89, 16, 85, 16, 97, 79, 89, 16, 86, 16, 114]
abbrev dktX6_init_27 : List UInt8 := dkwX6_init_27 ++ dktX6_init_28
def dkwX6_init_26 : List UInt8 := [79, 89, 16, 79, 16, 107, 79, 89, 16, 80, 16, 101, 79, 89, 16, 81, 16, 110, 79, 89, 16, 82, 16, 32]
abbrev dktX6_init_26 : List UInt8 := dkwX6_init_26 ++ dktX6_init_27
def dkwX6_init_25 : List UInt8 := [79, 89, 16, 75, 16, 111, 79, 89, 16, 76, 16, 98, 79, 89, 16, 77, 16, 114, 79, 89, 16, 78, 16, 111]
abbrev dktX6_init_25 : List UInt8 := dkwX6_init_25 ++ dktX6_init_26
def dkwX6_init_24 : List UInt8 := [79, 89, 16, 71, 16, 101, 79, 89, 16, 72, 16, 112, 79, 89, 16, 73, 16, 116, 79, 89, 16, 74, 16, 32]
abbrev dktX6_init_24 : List UInt8 := dkwX6_init_24 ++ dktX6_init_25
def dkwX6_init_23 : List UInt8 := [79, 89, 16, 67, 16, 114, 79, 89, 16, 68, 16, 32, 79, 89, 16, 69, 16, 111, 79, 89, 16, 70, 16, 107]
abbrev dktX6_init_23 : List UInt8 := dkwX6_init_23 ++ dktX6_init_24
def dkwX6_init_22 : List UInt8 := [79, 89, 16, 63, 16, 32, 79, 89, 16, 64, 16, 121, 79, 89, 16, 65, 16, 101, 79, 89, 16, 66, 16, 97]
abbrev dktX6_init_22 : List UInt8 := dkwX6_init_22 ++ dktX6_init_23
def dkwX6_init_21 : List UInt8 := [79, 89, 16, 59, 16, 32, 79, 89, 16, 60, 16, 97, 79, 89, 16, 61, 16, 103, 79, 89, 16, 62, 16, 101]
abbrev dktX6_init_21 : List UInt8 := dkwX6_init_21 ++ dktX6_init_22
def dkwX6_init_20 : List UInt8 := [79, 89, 16, 55, 16, 115, 79, 89, 16, 56, 16, 105, 79, 89, 16, 57, 16, 122, 79, 89, 16, 58, 16, 101]
abbrev dktX6_init_20 : List UInt8 := dkwX6_init_20 ++ dktX6_init_21
def dkwX6_init_19 : List UInt8 := [79, 89, 16, 51, 16, 111, 79, 89, 16, 52, 16, 115, 79, 89, 16, 53, 16, 116, 79, 89, 16, 54, 16, 32]
abbrev dktX6_init_19 : List UInt8 := dkwX6_init_19 ++ dktX6_init_20
def dkwX6_init_18 : List UInt8 := [79, 89, 16, 47, 16, 103, 79, 89, 16, 48, 16, 101, 79, 89, 16, 49, 16, 32, 79, 89, 16, 50, 16, 108]
abbrev dktX6_init_18 : List UInt8 := dkwX6_init_18 ++ dktX6_init_19
def dkwX6_init_17 : List UInt8 := [79, 89, 16, 43, 16, 32, 79, 89, 16, 44, 16, 108, 79, 89, 16, 45, 16, 97, 79, 89, 16, 46, 16, 114]
abbrev dktX6_init_17 : List UInt8 := dkwX6_init_17 ++ dktX6_init_18
def dkwX6_init_16 : List UInt8 := [79, 89, 16, 39, 16, 111, 79, 89, 16, 40, 16, 107, 79, 89, 16, 41, 16, 101, 79, 89, 16, 42, 16, 110]
abbrev dktX6_init_16 : List UInt8 := dkwX6_init_16 ++ dktX6_init_17
def dkwX6_init_15 : List UInt8 := [79, 89, 16, 35, 16, 116, 79, 89, 16, 36, 16, 32, 79, 89, 16, 37, 16, 98, 79, 89, 16, 38, 16, 114]
abbrev dktX6_init_15 : List UInt8 := dkwX6_init_15 ++ dktX6_init_16
def dkwX6_init_14 : List UInt8 := [79, 89, 16, 31, 16, 32, 79, 89, 16, 32, 16, 107, 79, 89, 16, 33, 16, 101, 79, 89, 16, 34, 16, 112]
abbrev dktX6_init_14 : List UInt8 := dkwX6_init_14 ++ dktX6_init_15
def dkwX6_init_13 : List UInt8 := [79, 89, 16, 27, 16, 32, 79, 89, 16, 28, 16, 110, 79, 89, 16, 29, 16, 111, 79, 89, 16, 30, 16, 116]
abbrev dktX6_init_13 : List UInt8 := dkwX6_init_13 ++ dktX6_init_14
def dkwX6_init_12 : List UInt8 := [79, 89, 16, 23, 16, 32, 79, 89, 16, 24, 16, 97, 79, 89, 16, 25, 16, 110, 79, 89, 16, 26, 16, 100]
abbrev dktX6_init_12 : List UInt8 := dkwX6_init_12 ++ dktX6_init_13
def dkwX6_init_11 : List UInt8 := [79, 89, 16, 19, 16, 110, 79, 89, 16, 20, 16, 32, 79, 89, 16, 21, 16, 111, 79, 89, 16, 22, 16, 114]
abbrev dktX6_init_11 : List UInt8 := dkwX6_init_11 ++ dktX6_init_12
def dkwX6_init_10 : List UInt8 := [79, 89, 16, 15, 16, 32, 79, 89, 16, 16, 16, 119, 79, 89, 16, 17, 16, 104, 79, 89, 16, 18, 16, 101]
abbrev dktX6_init_10 : List UInt8 := dkwX6_init_10 ++ dktX6_init_11
def dkwX6_init_9 : List UInt8 := [79, 89, 16, 11, 16, 114, 79, 89, 16, 12, 16, 101, 79, 89, 16, 13, 16, 97, 79, 89, 16, 14, 16, 107]
abbrev dktX6_init_9 : List UInt8 := dkwX6_init_9 ++ dktX6_init_10
def dkwX6_init_8 : List UInt8 := [79, 89, 16, 7, 16, 97, 79, 89, 16, 8, 16, 108, 79, 89, 16, 9, 16, 32, 79, 89, 16, 10, 16, 98]
abbrev dktX6_init_8 : List UInt8 := dkwX6_init_8 ++ dktX6_init_9
def dkwX6_init_7 : List UInt8 := [5, 16, 97, 79, 89, 6, 16, 121, 79, 89, 7, 16, 32, 79, 89, 8, 16, 100, 79, 89, 16, 6, 16, 101]
abbrev dktX6_init_7 : List UInt8 := dkwX6_init_7 ++ dktX6_init_8
def dkwX6_init_6 : List UInt8 := [17, 1, 144, 188, 10, 181, 0, 19, 42, 16, 122, 188, 10, 89, 3, 16, 32, 79, 89, 4, 16, 109, 79, 89]
abbrev dktX6_init_6 : List UInt8 := dkwX6_init_6 ++ dktX6_init_7
def dkwX6_init_5 : List UInt8 := [89, 16, 21, 3, 79, 89, 16, 22, 3, 79, 181, 0, 13, 42, 17, 9, 96, 188, 10, 181, 0, 16, 42]
abbrev dktX6_init_5 : List UInt8 := dkwX6_init_5 ++ dktX6_init_6
def dkwX6_init_4 : List UInt8 := [16, 16, 3, 79, 89, 16, 17, 3, 79, 89, 16, 18, 3, 79, 89, 16, 19, 3, 79, 89, 16, 20, 3, 79]
abbrev dktX6_init_4 : List UInt8 := dkwX6_init_4 ++ dktX6_init_5
def dkwX6_init_3 : List UInt8 := [4, 79, 89, 16, 12, 3, 79, 89, 16, 13, 3, 79, 89, 16, 14, 3, 79, 89, 16, 15, 3, 79, 89]
abbrev dktX6_init_3 : List UInt8 := dkwX6_init_3 ++ dktX6_init_4
def dkwX6_init_2 : List UInt8 := [79, 89, 16, 7, 3, 79, 89, 16, 8, 7, 79, 89, 16, 9, 3, 79, 89, 16, 10, 3, 79, 89, 16, 11]
abbrev dktX6_init_2 : List UInt8 := dkwX6_init_2 ++ dktX6_init_3
def dkwX6_init_1 : List UInt8 := [79, 89, 5, 7, 79, 89, 6, 4, 79, 89, 7, 16, 6, 79, 89, 8, 17, 3, 232, 79, 89, 16, 6, 4]
abbrev dktX6_init_1 : List UInt8 := dkwX6_init_1 ++ dktX6_init_2
def dkwX6_init_0 : List UInt8 := [42, 183, 0, 1, 42, 16, 108, 188, 10, 181, 0, 7, 42, 16, 23, 188, 10, 89, 3, 6, 79, 89, 4, 8]
abbrev dktX6_init_0 : List UInt8 := dkwX6_init_0 ++ dktX6_init_1
theorem dksX6_init_0 : cX6_init.data.toList.drop 0 = dktX6_init_0 := by decide +kernel
theorem dksX6_init_1 : cX6_init.data.toList.drop 24 = dktX6_init_1 := dk_seg dksX6_init_0 24 rfl rfl
theorem dksX6_init_2 : cX6_init.data.toList.drop 48 = dktX6_init_2 := dk_seg dksX6_init_1 24 rfl rfl
theorem dksX6_init_3 : cX6_init.data.toList.drop 72 = dktX6_init_3 := dk_seg dksX6_init_2 24 rfl rfl
theorem dksX6_init_4 : cX6_init.data.toList.drop 95 = dktX6_init_4 := dk_seg dksX6_init_3 23 rfl rfl
theorem dksX6_init_5 : cX6_init.data.toList.drop 119 = dktX6_init_5 := dk_seg dksX6_init_4 24 rfl rfl
theorem dksX6_init_6 : cX6_init.data.toList.drop 142 = dktX6_init_6 := dk_seg dksX6_init_5 23 rfl rfl
theorem dksX6_init_7 : cX6_init.data.toList.drop 166 = dktX6_init_7 := dk_seg dksX6_init_6 24 rfl rfl
theorem dksX6_init_8 : cX6_init.data.toList.drop 190 = dktX6_init_8 := dk_seg dksX6_init_7 24 rfl rfl
theorem dksX6_init_9 : cX6_init.data.toList.drop 214 = dktX6_init_9 := dk_seg dksX6_init_8 24 rfl rfl
theorem dksX6_init_10 : cX6_init.data.toList.drop 238 = dktX6_init_10 := dk_seg dksX6_init_9 24 rfl rfl
theorem dksX6_init_11 : cX6_init.data.toList.drop 262 = dktX6_init_11 := dk_seg dksX6_init_10 24 rfl rfl
theorem dksX6_init_12 : cX6_init.data.toList.drop 286 = dktX6_init_12 := dk_seg dksX6_init_11 24 rfl rfl
theorem dksX6_init_13 : cX6_init.data.toList.drop 310 = dktX6_init_13 := dk_seg dksX6_init_12 24 rfl rfl
theorem dksX6_init_14 : cX6_init.data.toList.drop 334 = dktX6_init_14 := dk_seg dksX6_init_13 24 rfl rfl
theorem dksX6_init_15 : cX6_init.data.toList.drop 358 = dktX6_init_15 := dk_seg dksX6_init_14 24 rfl rfl
theorem dksX6_init_16 : cX6_init.data.toList.drop 382 = dktX6_init_16 := dk_seg dksX6_init_15 24 rfl rfl
theorem dksX6_init_17 : cX6_init.data.toList.drop 406 = dktX6_init_17 := dk_seg dksX6_init_16 24 rfl rfl
theorem dksX6_init_18 : cX6_init.data.toList.drop 430 = dktX6_init_18 := dk_seg dksX6_init_17 24 rfl rfl
theorem dksX6_init_19 : cX6_init.data.toList.drop 454 = dktX6_init_19 := dk_seg dksX6_init_18 24 rfl rfl
theorem dksX6_init_20 : cX6_init.data.toList.drop 478 = dktX6_init_20 := dk_seg dksX6_init_19 24 rfl rfl
theorem dksX6_init_21 : cX6_init.data.toList.drop 502 = dktX6_init_21 := dk_seg dksX6_init_20 24 rfl rfl
theorem dksX6_init_22 : cX6_init.data.toList.drop 526 = dktX6_init_22 := dk_seg dksX6_init_21 24 rfl rfl
theorem dksX6_init_23 : cX6_init.data.toList.drop 550 = dktX6_init_23 := dk_seg dksX6_init_22 24 rfl rfl
theorem dksX6_init_24 : cX6_init.data.toList.drop 574 = dktX6_init_24 := dk_seg dksX6_init_23 24 rfl rfl
theorem dksX6_init_25 : cX6_init.data.toList.drop 598 = dktX6_init_25 := dk_seg dksX6_init_24 24 rfl rfl
theorem dksX6_init_26 : cX6_init.data.toList.drop 622 = dktX6_init_26 := dk_seg dksX6_init_25 24 rfl rfl
theorem dksX6_init_27 : cX6_init.data.toList.drop 646 = dktX6_init_27 := dk_seg dksX6_init_26 24 rfl rfl
theorem dksX6_init_28 : cX6_init.data.toList.drop 670 = dktX6_init_28 := dk_seg dksX6_init_27 24 rfl rfl
theorem dksX6_init_29 : cX6_init.data.toList.drop 694 = dktX6_init_29 := dk_seg dksX6_init_28 24 rfl rfl
theorem dksX6_init_30 : cX6_init.data.toList.drop 718 = dktX6_init_30 := dk_seg dksX6_init_29 24 rfl rfl
theorem dksX6_init_31 : cX6_init.data.toList.drop 742 = dktX6_init_31 := dk_seg dksX6_init_30 24 rfl rfl
theorem dksX6_init_32 : cX6_init.data.toList.drop 766 = dktX6_init_32 := dk_seg dksX6_init_31 24 rfl rfl
theorem dksX6_init_33 : cX6_init.data.toList.drop 790 = dktX6_init_33 := dk_seg dksX6_init_32 24 rfl rfl
theorem dksX6_init_34 : cX6_init.data.toList.drop 814 = dktX6_init_34 := dk_seg dksX6_init_33 24 rfl rfl
theorem dksX6_init_35 : cX6_init.data.toList.drop 838 = dktX6_init_35 := dk_seg dksX6_init_34 24 rfl rfl
theorem dksX6_init_36 : cX6_init.data.toList.drop 862 = dktX6_init_36 := dk_seg dksX6_init_35 24 rfl rfl
theorem dksX6_init_37 : cX6_init.data.toList.drop 885 = dktX6_init_37 := dk_seg dksX6_init_36 23 rfl rfl
theorem dksX6_init_38 : cX6_init.data.toList.drop 909 = dktX6_init_38 := dk_seg dksX6_init_37 24 rfl rfl
theorem dksX6_init_39 : cX6_init.data.toList.drop 931 = dktX6_init_39 := dk_seg dksX6_init_38 22 rfl rfl
theorem dksX6_init_40 : cX6_init.data.toList.drop 955 = dktX6_init_40 := dk_seg dksX6_init_39 24 rfl rfl
theorem dksX6_init_41 : cX6_init.data.toList.drop 977 = dktX6_init_41 := dk_seg dksX6_init_40 22 rfl rfl
theorem dksX6_init_42 : cX6_init.data.toList.drop 1001 = dktX6_init_42 := dk_seg dksX6_init_41 24 rfl rfl
theorem dksX6_init_43 : cX6_init.data.toList.drop 1025 = dktX6_init_43 := dk_seg dksX6_init_42 24 rfl rfl
theorem dksX6_init_44 : cX6_init.data.toList.drop 1049 = dktX6_init_44 := dk_seg dksX6_init_43 24 rfl rfl
theorem dX6_init_0 : decode cX6_init 0 = .ok (.aload_n 0, 1) := dk_42 (dk_at dksX6_init_0 0 rfl rfl)
theorem dX6_init_1 : decode cX6_init 1 = .ok (.invokespecial 1, 3) := dk_183 0 1 (dk_at dksX6_init_0 1 rfl rfl)
theorem dX6_init_4 : decode cX6_init 4 = .ok (.aload_n 0, 1) := dk_42 (dk_at dksX6_init_0 4 rfl rfl)
theorem dX6_init_5 : decode cX6_init 5 = .ok (.bipush 108, 2) := dk_16 108 (dk_at dksX6_init_0 5 rfl rfl)
theorem dX6_init_7 : decode cX6_init 7 = .ok (.newarray .int, 2) := dk_188_10 (dk_at dksX6_init_0 7 rfl rfl)
theorem dX6_init_9 : decode cX6_init 9 = .ok (.putfield 7, 3) := dk_181 0 7 (dk_at dksX6_init_0 9 rfl rfl)
theorem dX6_init_12 : decode cX6_init 12 = .ok (.aload_n 0, 1) := dk_42 (dk_at dksX6_init_0 12 rfl rfl)
theorem dX6_init_13 : decode cX6_init 13 = .ok (.bipush 23, 2) := dk_16 23 (dk_at dksX6_init_0 13 rfl rfl)
theorem dX6_init_15 : decode cX6_init 15 = .ok (.newarray .int, 2) := dk_188_10 (dk_at dksX6_init_0 15 rfl rfl)
theorem dX6_init_17 : decode cX6_init 17 = .ok (.dup, 1) := dk_89 (dk_at dksX6_init_0 17 rfl rfl)
theorem dX6_init_18 : decode cX6_init 18 = .ok (.iconst 0, 1) := dk_3 (dk_at dksX6_init_0 18 rfl rfl)
theorem dX6_init_19 : decode cX6_init 19 = .ok (.iconst 3, 1) := dk_6 (dk_at dksX6_init_0 19 rfl rfl)
theorem dX6_init_20 : decode cX6_init 20 = .ok (.iastore, 1) := dk_79 (dk_at dksX6_init_0 20 rfl rfl)
theorem dX6_init_21 : decode cX6_init 21 = .ok (.dup, 1) := dk_89 (dk_at dksX6_init_0 21 rfl rfl)
theorem dX6_init_22 : decode cX6_init 22 = .ok (.iconst 1, 1) := dk_4 (dk_at dksX6_init_0 22 rfl rfl)
theorem dX6_init_23 : decode cX6_init 23 = .ok (.iconst 5, 1) := dk_8 (dk_at dksX6_init_0 23 rfl rfl)
theorem dX6_init_24 : decode cX6_init 24 = .ok (.iastore, 1) := dk_79 (dk_at dksX6_init_1 0 rfl rfl)
theorem dX6_init_25 : decode cX6_init 25 = .ok (.dup, 1) := dk_89 (dk_at dksX6_init_1 1 rfl rfl)
theorem dX6_init_26 : decode cX6_init 26 = .ok (.iconst 2, 1) := dk_5 (dk_at dksX6_init_1 2 rfl rfl)
theorem dX6_init_27 : decode cX6_init 27 = .ok (.iconst 4, 1) := dk_7 (dk_at dksX6_init_1 3 rfl rfl)
theorem dX6_init_28 : decode cX6_init 28 = .ok (.iastore, 1) := dk_79 (dk_at dksX6_init_1 4 rfl rfl)
theorem dX6_init_29 : decode cX6_init 29 = .ok (.dup, 1) := dk_89 (dk_at dksX6_init_1 5 rfl rfl)
theorem dX6_init_30 : decode cX6_init 30 = .ok (.iconst 3, 1) := dk_6 (dk_at dksX6_init_1 6 rfl rfl)
theorem dX6_init_31 : decode cX6_init 31 = .ok (.iconst 1, 1) := dk_4 (dk_at dksX6_init_1 7 rfl rfl)
theorem dX6_init_32 : decode cX6_init 32 = .ok (.iastore, 1) := dk_79 (dk_at dksX6_init_1 8 rfl rfl)
theorem dX6_init_33 : decode cX6_init 33 = .ok (.dup, 1) := dk_89 (dk_at dksX6_init_1 9 rfl rfl)
theorem dX6_init_34 : decode cX6_init 34 = .ok (.iconst 4, 1) := dk_7 (dk_at dksX6_init_1 10 rfl rfl)
theorem dX6_init_35 : decode cX6_init 35 = .ok (.bipush 6, 2) := dk_16 6 (dk_at dksX6_init_1 11 rfl rfl)
theorem dX6_init_37 : decode cX6_init 37 = .ok (.iastore, 1) := dk_79 (dk_at dksX6_init_1 13 rfl rfl)
theorem dX6_init_38 : decode cX6_init 38 = .ok (.dup, 1) := dk_89 (dk_at dksX6_init_1 14 rfl rfl)
theorem dX6_init_39 : decode cX6_init 39 = .ok (.iconst 5, 1) := dk_8 (dk_at dksX6_init_1 15 rfl rfl)
theorem dX6_init_40 : decode cX6_init 40 = .ok (.sipush 1000, 3) := dk_17 3 232 (dk_at dksX6_init_1 16 rfl rfl)
theorem dX6_init_43 : decode cX6_init 43 = .ok (.iastore, 1) := dk_79 (dk_at dksX6_init_1 19 rfl rfl)
theorem dX6_init_44 : decode cX6_init 44 = .ok (.dup, 1) := dk_89 (dk_at dksX6_init_1 20 rfl rfl)
theorem dX6_init_45 : decode cX6_init 45 = .ok (.bipush 6, 2) := dk_16 6 (dk_at dksX6_init_1 21 rfl rfl)
theorem dX6_init_47 : decode cX6_init 47 = .ok (.iconst 1, 1) := dk_4 (dk_at dksX6_init_1 23 rfl rfl)
theorem dX6_init_48 : decode cX6_init 48 = .ok (.iastore, 1) := dk_79 (dk_at dksX6_init_2 0 rfl rfl)
theorem dX6_init_49 : decode cX6_init 49 = .ok (.dup, 1) := dk_89 (dk_at dksX6_init_2 1 rfl rfl)
theorem dX6_init_50 : decode cX6_init 50 = .ok (.bipush 7, 2) := dk_16 7 (dk_at dksX6_init_2 2 rfl rfl)
theorem dX6_init_52 : decode cX6_init 52 = .ok (.iconst 0, 1) := dk_3 (dk_at dksX6_init_2 4 rfl rfl)
theorem dX6_init_53 : decode cX6_init 53 = .ok (.iastore, 1) := dk_79 (dk_at dksX6_init_2 5 rfl rfl)
theorem dX6_init_54 : decode cX6_init 54 = .ok (.dup, 1) := dk_89 (dk_at dksX6_init_2 6 rfl rfl)
theorem dX6_init_55 : decode cX6_init 55 = .ok (.bipush 8, 2) := dk_16 8 (dk_at dksX6_init_2 7 rfl rfl)
theorem dX6_init_57 : decode cX6_init 57 = .ok (.iconst 4, 1) := dk_7 (dk_at dksX6_init_2 9 rfl rfl)
theorem dX6_init_58 : decode cX6_init 58 = .ok (.iastore, 1) := dk_79 (dk_at dksX6_init_2 10 rfl rfl)
theorem dX6_init_59 : decode cX6_init 59 = .ok (.dup, 1) := dk_89 (dk_at dksX6_init_2 11 rfl rfl)
theorem dX6_init_60 : decode cX6_init 60 = .ok (.bipush 9, 2) := dk_16 9 (dk_at dksX6_init_2 12 rfl rfl)
theorem dX6_init_62 : decode cX6_init 62 = .ok (.iconst 0, 1) := dk_3 (dk_at dksX6_init_2 14 rfl rfl)
theorem dX6_init_63 : decode cX6_init 63 = .ok (.iastore, 1) := dk_79 (dk_at dksX6_init_2 15 rfl rfl)
theorem dX6_init_64 : decode cX6_init 64 = .ok (.dup, 1) := dk_89 (dk_at dksX6_init_2 16 rfl rfl)
theorem dX6_init_65 : decode cX6_init 65 = .ok (.bipush 10, 2) := dk_16 10 (dk_at dksX6_init_2 17 rfl rfl)
theorem dX6_init_67 : decode cX6_init 67 = .ok (.iconst 0, 1) := dk_3 (dk_at dksX6_init_2 19 rfl rfl)
theorem dX6_init_68 : decode cX6_init 68 = .ok (.iastore, 1) := dk_79 (dk_at dksX6_init_2 20 rfl rfl)
theorem dX6_init_69 : decode cX6_init 69 = .ok (.dup, 1) := dk_89 (dk_at dksX6_init_2 21 rfl rfl)
theorem dX6_init_70 : decode cX6_init 70 = .ok (.bipush 11, 2) := dk_16 11 (dk_at dksX6_init_2 22 rfl rfl)
theorem dX6_init_72 : decode cX6_init 72 = .ok (.iconst 1, 1) := dk_4 (dk_at dksX6_init_3 0 rfl rfl)
theorem dX6_init_73 : decode cX6_init 73 = .ok (.iastore, 1) := dk_79 (dk_at dksX6_init_3 1 rfl rfl)
theorem dX6_init_74 : decode cX6_init 74 = .ok (.dup, 1) := dk_89 (dk_at dksX6_init_3 2 rfl rfl)
theorem dX6_init_75 : decode cX6_init 75 = .ok (.bipush 12, 2) := dk_16 12 (dk_at dksX6_init_3 3 rfl rfl)
theorem dX6_init_77 : decode cX6_init 77 = .ok (.iconst 0, 1) := dk_3 (dk_at dksX6_init_3 5 rfl rfl)
theorem dX6_init_78 : decode cX6_init 78 = .ok (.iastore, 1) := dk_79 (dk_at dksX6_init_3 6 rfl rfl)
theorem dX6_init_79 : decode cX6_init 79 = .ok (.dup, 1) := dk_89 (dk_at dksX6_init_3 7 rfl rfl)
theorem dX6_init_80 : decode cX6_init 80 = .ok (.bipush 13, 2) := dk_16 13 (dk_at dksX6_init_3 8 rfl rfl)
theorem dX6_init_82 : decode cX6_init 82 = .ok (.iconst 0, 1) := dk_3 (dk_at dksX6_init_3 10 rfl rfl)
theorem dX6_init_83 : decode cX6_init 83 = .ok (.iastore, 1) := dk_79 (dk_at dksX6_init_3 11 rfl rfl)
theorem dX6_init_84 : decode cX6_init 84 = .ok (.dup, 1) := dk_89 (dk_at dksX6_init_3 12 rfl rfl)
theorem dX6_init_85 : decode cX6_init 85 = .ok (.bipush 14, 2) := dk_16 14 (dk_at dksX6_init_3 13 rfl rfl)
theorem dX6_init_87 : decode cX6_init 87 = .ok (.iconst 0, 1) := dk_3 (dk_at dksX6_init_3 15 rfl rfl)
theorem dX6_init_88 : decode cX6_init 88 = .ok (.iastore, 1) := dk_79 (dk_at dksX6_init_3 16 rfl rfl)
theorem dX6_init_89 : decode cX6_init 89 = .ok (.dup, 1) := dk_89 (dk_at dksX6_init_3 17 rfl rfl)
theorem dX6_init_90 : decode cX6_init 90 = .ok (.bipush 15, 2) := dk_16 15 (dk_at dksX6_init_3 18 rfl rfl)
theorem dX6_init_92 : decode cX6_init 92 = .ok (.iconst 0, 1) := dk_3 (dk_at dksX6_init_3 20 rfl rfl)
theorem dX6_init_93 : decode cX6_init 93 = .ok (.iastore, 1) := dk_79 (dk_at dksX6_init_3 21 rfl rfl)
theorem dX6_init_94 : decode cX6_init 94 = .ok (.dup, 1) := dk_89 (dk_at dksX6_init_3 22 rfl rfl)
theorem dX6_init_95 : decode cX6_init 95 = .ok (.bipush 16, 2) := dk_16 16 (dk_at dksX6_init_4 0 rfl rfl)
theorem dX6_init_97 : decode cX6_init 97 = .ok (.iconst 0, 1) := dk_3 (dk_at dksX6_init_4 2 rfl rfl)
theorem dX6_init_98 : decode cX6_init 98 = .ok (.iastore, 1) := dk_79 (dk_at dksX6_init_4 3 rfl rfl)
theorem dX6_init_99 : decode cX6_init 99 = .ok (.dup, 1) := dk_89 (dk_at dksX6_init_4 4 rfl rfl)
theorem dX6_init_100 : decode cX6_init 100 = .ok (.bipush 17, 2) := dk_16 17 (dk_at dksX6_init_4 5 rfl rfl)
theorem dX6_init_102 : decode cX6_init 102 = .ok (.iconst 0, 1) := dk_3 (dk_at dksX6_init_4 7 rfl rfl)
theorem dX6_init_103 : decode cX6_init 103 = .ok (.iastore, 1) := dk_79 (dk_at dksX6_init_4 8 rfl rfl)
theorem dX6_init_104 : decode cX6_init 104 = .ok (.dup, 1) := dk_89 (dk_at dksX6_init_4 9 rfl rfl)
theorem dX6_init_105 : decode cX6_init 105 = .ok (.bipush 18, 2) := dk_16 18 (dk_at dksX6_init_4 10 rfl rfl)
theorem dX6_init_107 : decode cX6_init 107 = .ok (.iconst 0, 1) := dk_3 (dk_at dksX6_init_4 12 rfl rfl)
theorem dX6_init_108 : decode cX6_init 108 = .ok (.iastore, 1) := dk_79 (dk_at dksX6_init_4 13 rfl rfl)
theorem dX6_init_109 : decode cX6_init 109 = .ok (.dup, 1) := dk_89 (dk_at dksX6_init_4 14 rfl rfl)
theorem dX6_init_110 : decode cX6_init 110 = .ok (.bipush 19, 2) := dk_16 19 (dk_at dksX6_init_4 15 rfl rfl)
theorem dX6_init_112 : decode cX6_init 112 = .ok (.iconst 0, 1) := dk_3 (dk_at dksX6_init_4 17 rfl rfl)
theorem dX6_init_113 : decode cX6_init 113 = .ok (.iastore, 1) := dk_79 (dk_at dksX6_init_4 18 rfl rfl)
theorem dX6_init_114 : decode cX6_init 114 = .ok (.dup, 1) := dk_89 (dk_at dksX6_init_4 19 rfl rfl)
theorem dX6_init_115 : decode cX6_init 115 = .ok (.bipush 20, 2) := dk_16 20 (dk_at dksX6_init_4 20 rfl rfl)
theorem dX6_init_117 : decode cX6_init 117 = .ok (.iconst 0, 1) := dk_3 (dk_at dksX6_init_4 22 rfl rfl)
theorem dX6_init_118 : decode cX6_init 118 = .ok (.iastore, 1) := dk_79 (dk_at dksX6_init_4 23 rfl rfl)
theorem dX6_init_119 : decode cX6_init 119 = .ok (.dup, 1) := dk_89 (dk_at dksX6_init_5 0 rfl rfl)
theorem dX6_init_120 : decode cX6_init 120 = .ok (.bipush 21, 2) := dk_16 21 (dk_at dksX6_init_5 1 rfl rfl)
theorem dX6_init_122 : decode cX6_init 122 = .ok (.iconst 0, 1) := dk_3 (dk_at dksX6_init_5 3 rfl rfl)
theorem dX6_init_123 : decode cX6_init 123 = .ok (.iastore, 1) := dk_79 (dk_at dksX6_init_5 4 rfl rfl)
theorem dX6_init_124 : decode cX6_init 124 = .ok (.dup, 1) := dk_89 (dk_at dksX6_init_5 5 rfl rfl)
theorem dX6_init_125 : decode cX6_init 125 = .ok (.bipush 22, 2) := dk_16 22 (dk_at dksX6_init_5 6 rfl rfl)
theorem dX6_init_127 : decode cX6_init 127 = .ok (.iconst 0, 1) := dk_3 (dk_at dksX6_init_5 8 rfl rfl)
theorem dX6_init_128 : decode cX6_init 128 = .ok (.iastore, 1) := dk_79 (dk_at dksX6_init_5 9 rfl rfl)
theorem dX6_init_129 : decode cX6_init 129 = .ok (.putfield 13, 3) := dk_181 0 13 (dk_at dksX6_init_5 10 rfl rfl)
theorem dX6_init_132 : decode cX6_init 132 = .ok (.aload_n 0, 1) := dk_42 (dk_at dksX6_init_5 13 rfl rfl)
theorem dX6_init_133 : decode cX6_init 133 = .ok (.sipush 2400, 3) := dk_17 9 96 (dk_at dksX6_init_5 14 rfl rfl)
theorem dX6_init_136 : decode cX6_init 136 = .ok (.newarray .int, 2) := dk_188_10 (dk_at dksX6_init_5 17 rfl rfl)
theorem dX6_init_138 : decode cX6_init 138 = .ok (.putfield 16, 3) := dk_181 0 16 (dk_at dksX6_init_5 19 rfl rfl)
theorem dX6_init_141 : decode cX6_init 141 = .ok (.aload_n 0, 1) := dk_42 (dk_at dksX6_init_5 22 rfl rfl)
theorem dX6_init_142 : decode cX6_init 142 = .ok (.sipush 400, 3) := dk_17 1 144 (dk_at dksX6_init_6 0 rfl rfl)
theorem dX6_init_145 : decode cX6_init 145 = .ok (.newarray .int, 2) := dk_188_10 (dk_at dksX6_init_6 3 rfl rfl)
theorem dX6_init_147 : decode cX6_init 147 = .ok (.putfield 19, 3) := dk_181 0 19 (dk_at dksX6_init_6 5 rfl rfl)
theorem dX6_init_150 : decode cX6_init 150 = .ok (.aload_n 0, 1) := dk_42 (dk_at dksX6_init_6 8 rfl rfl)
theorem dX6_init_151 : decode cX6_init 151 = .ok (.bipush 122, 2) := dk_16 122 (dk_at dksX6_init_6 9 rfl rfl)
theorem dX6_init_153 : decode cX6_init 153 = .ok (.newarray .int, 2) := dk_188_10 (dk_at dksX6_init_6 11 rfl rfl)
theorem dX6_init_155 : decode cX6_init 155 = .ok (.dup, 1) := dk_89 (dk_at dksX6_init_6 13 rfl rfl)
theorem dX6_init_156 : decode cX6_init 156 = .ok (.iconst 0, 1) := dk_3 (dk_at dksX6_init_6 14 rfl rfl)
theorem dX6_init_157 : decode cX6_init 157 = .ok (.bipush 32, 2) := dk_16 32 (dk_at dksX6_init_6 15 rfl rfl)
theorem dX6_init_159 : decode cX6_init 159 = .ok (.iastore, 1) := dk_79 (dk_at dksX6_init_6 17 rfl rfl)
theorem dX6_init_160 : decode cX6_init 160 = .ok (.dup, 1) := dk_89 (dk_at dksX6_init_6 18 rfl rfl)
theorem dX6_init_161 : decode cX6_init 161 = .ok (.iconst 1, 1) := dk_4 (dk_at dksX6_init_6 19 rfl rfl)
theorem dX6_init_162 : decode cX6_init 162 = .ok (.bipush 109, 2) := dk_16 109 (dk_at dksX6_init_6 20 rfl rfl)
theorem dX6_init_164 : decode cX6_init 164 = .ok (.iastore, 1) := dk_79 (dk_at dksX6_init_6 22 rfl rfl)
theorem dX6_init_165 : decode cX6_init 165 = .ok (.dup, 1) := dk_89 (dk_at dksX6_init_6 23 rfl rfl)
theorem dX6_init_166 : decode cX6_init 166 = .ok (.iconst 2, 1) := dk_5 (dk_at dksX6_init_7 0 rfl rfl)
theorem dX6_init_167 : decode cX6_init 167 = .ok (.bipush 97, 2) := dk_16 97 (dk_at dksX6_init_7 1 rfl rfl)
theorem dX6_init_169 : decode cX6_init 169 = .ok (.iastore, 1) := dk_79 (dk_at dksX6_init_7 3 rfl rfl)
theorem dX6_init_170 : decode cX6_init 170 = .ok (.dup, 1) := dk_89 (dk_at dksX6_init_7 4 rfl rfl)
theorem dX6_init_171 : decode cX6_init 171 = .ok (.iconst 3, 1) := dk_6 (dk_at dksX6_init_7 5 rfl rfl)
theorem dX6_init_172 : decode cX6_init 172 = .ok (.bipush 121, 2) := dk_16 121 (dk_at dksX6_init_7 6 rfl rfl)
theorem dX6_init_174 : decode cX6_init 174 = .ok (.iastore, 1) := dk_79 (dk_at dksX6_init_7 8 rfl rfl)
theorem dX6_init_175 : decode cX6_init 175 = .ok (.dup, 1) := dk_89 (dk_at dksX6_init_7 9 rfl rfl)
theorem dX6_init_176 : decode cX6_init 176 = .ok (.iconst 4, 1) := dk_7 (dk_at dksX6_init_7 10 rfl rfl)
theorem dX6_init_177 : decode cX6_init 177 = .ok (.bipush 32, 2) := dk_16 32 (dk_at dksX6_init_7 11 rfl rfl)
theorem dX6_init_179 : decode cX6_init 179 = .ok (.iastore, 1) := dk_79 (dk_at dksX6_init_7 13 rfl rfl)
theorem dX6_init_180 : decode cX6_init 180 = .ok (.dup, 1) := dk_89 (dk_at dksX6_init_7 14 rfl rfl)
theorem dX6_init_181 : decode cX6_init 181 = .ok (.iconst 5, 1) := dk_8 (dk_at dksX6_init_7 15 rfl rfl)
theorem dX6_init_182 : decode cX6_init 182 = .ok (.bipush 100, 2) := dk_16 100 (dk_at dksX6_init_7 16 rfl rfl)
theorem dX6_init_184 : decode cX6_init 184 = .ok (.iastore, 1) := dk_79 (dk_at dksX6_init_7 18 rfl rfl)
theorem dX6_init_185 : decode cX6_init 185 = .ok (.dup, 1) := dk_89 (dk_at dksX6_init_7 19 rfl rfl)
theorem dX6_init_186 : decode cX6_init 186 = .ok (.bipush 6, 2) := dk_16 6 (dk_at dksX6_init_7 20 rfl rfl)
theorem dX6_init_188 : decode cX6_init 188 = .ok (.bipush 101, 2) := dk_16 101 (dk_at dksX6_init_7 22 rfl rfl)
theorem dX6_init_190 : decode cX6_init 190 = .ok (.iastore, 1) := dk_79 (dk_at dksX6_init_8 0 rfl rfl)
theorem dX6_init_191 : decode cX6_init 191 = .ok (.dup, 1) := dk_89 (dk_at dksX6_init_8 1 rfl rfl)
theorem dX6_init_192 : decode cX6_init 192 = .ok (.bipush 7, 2) := dk_16 7 (dk_at dksX6_init_8 2 rfl rfl)
theorem dX6_init_194 : decode cX6_init 194 = .ok (.bipush 97, 2) := dk_16 97 (dk_at dksX6_init_8 4 rfl rfl)
theorem dX6_init_196 : decode cX6_init 196 = .ok (.iastore, 1) := dk_79 (dk_at dksX6_init_8 6 rfl rfl)
theorem dX6_init_197 : decode cX6_init 197 = .ok (.dup, 1) := dk_89 (dk_at dksX6_init_8 7 rfl rfl)
theorem dX6_init_198 : decode cX6_init 198 = .ok (.bipush 8, 2) := dk_16 8 (dk_at dksX6_init_8 8 rfl rfl)
theorem dX6_init_200 : decode cX6_init 200 = .ok (.bipush 108, 2) := dk_16 108 (dk_at dksX6_init_8 10 rfl rfl)
theorem dX6_init_202 : decode cX6_init 202 = .ok (.iastore, 1) := dk_79 (dk_at dksX6_init_8 12 rfl rfl)
theorem dX6_init_203 : decode cX6_init 203 = .ok (.dup, 1) := dk_89 (dk_at dksX6_init_8 13 rfl rfl)
theorem dX6_init_204 : decode cX6_init 204 = .ok (.bipush 9, 2) := dk_16 9 (dk_at dksX6_init_8 14 rfl rfl)
theorem dX6_init_206 : decode cX6_init 206 = .ok (.bipush 32, 2) := dk_16 32 (dk_at dksX6_init_8 16 rfl rfl)
theorem dX6_init_208 : decode cX6_init 208 = .ok (.iastore, 1) := dk_79 (dk_at dksX6_init_8 18 rfl rfl)
theorem dX6_init_209 : decode cX6_init 209 = .ok (.dup, 1) := dk_89 (dk_at dksX6_init_8 19 rfl rfl)
theorem dX6_init_210 : decode cX6_init 210 = .ok (.bipush 10, 2) := dk_16 10 (dk_at dksX6_init_8 20 rfl rfl)
theorem dX6_init_212 : decode cX6_init 212 = .ok (.bipush 98, 2) := dk_16 98 (dk_at dksX6_init_8 22 rfl rfl)
theorem dX6_init_214 : decode cX6_init 214 = .ok (.iastore, 1) := dk_79 (dk_at dksX6_init_9 0 rfl rfl)
theorem dX6_init_215 : decode cX6_init 215 = .ok (.dup, 1) := dk_89 (dk_at dksX6_init_9 1 rfl rfl)
theorem dX6_init_216 : decode cX6_init 216 = .ok (.bipush 11, 2) := dk_16 11 (dk_at dksX6_init_9 2 rfl rfl)
theorem dX6_init_218 : decode cX6_init 218 = .ok (.bipush 114, 2) := dk_16 114 (dk_at dksX6_init_9 4 rfl rfl)
theorem dX6_init_220 : decode cX6_init 220 = .ok (.iastore, 1) := dk_79 (dk_at dksX6_init_9 6 rfl rfl)
theorem dX6_init_221 : decode cX6_init 221 = .ok (.dup, 1) := dk_89 (dk_at dksX6_init_9 7 rfl rfl)
theorem dX6_init_222 : decode cX6_init 222 = .ok (.bipush 12, 2) := dk_16 12 (dk_at dksX6_init_9 8 rfl rfl)
theorem dX6_init_224 : decode cX6_init 224 = .ok (.bipush 101, 2) := dk_16 101 (dk_at dksX6_init_9 10 rfl rfl)
theorem dX6_init_226 : decode cX6_init 226 = .ok (.iastore, 1) := dk_79 (dk_at dksX6_init_9 12 rfl rfl)
theorem dX6_init_227 : decode cX6_init 227 = .ok (.dup, 1) := dk_89 (dk_at dksX6_init_9 13 rfl rfl)
theorem dX6_init_228 : decode cX6_init 228 = .ok (.bipush 13, 2) := dk_16 13 (dk_at dksX6_init_9 14 rfl rfl)
theorem dX6_init_230 : decode cX6_init 230 = .ok (.bipush 97, 2) := dk_16 97 (dk_at dksX6_init_9 16 rfl rfl)
theorem dX6_init_232 : decode cX6_init 232 = .ok (.iastore, 1) := dk_79 (dk_at dksX6_init_9 18 rfl rfl)
theorem dX6_init_233 : decode cX6_init 233 = .ok (.dup, 1) := dk_89 (dk_at dksX6_init_9 19 rfl rfl)
theorem dX6_init_234 : decode cX6_init 234 = .ok (.bipush 14, 2) := dk_16 14 (dk_at dksX6_init_9 20 rfl rfl)
theorem dX6_init_236 : decode cX6_init 236 = .ok (.bipush 107, 2) := dk_16 107 (dk_at dksX6_init_9 22 rfl rfl)
theorem dX6_init_238 : decode cX6_init 238 = .ok (.iastore, 1) := dk_79 (dk_at dksX6_init_10 0 rfl rfl)
theorem dX6_init_239 : decode cX6_init 239 = .ok (.dup, 1) := dk_89 (dk_at dksX6_init_10 1 rfl rfl)
theorem dX6_init_240 : decode cX6_init 240 = .ok (.bipush 15, 2) := dk_16 15 (dk_at dksX6_init_10 2 rfl rfl)
theorem dX6_init_242 : decode cX6_init 242 = .ok (.bipush 32, 2) := dk_16 32 (dk_at dksX6_init_10 4 rfl rfl)
theorem dX6_init_244 : decode cX6_init 244 = .ok (.iastore, 1) := dk_79 (dk_at dksX6_init_10 6 rfl rfl)
theorem dX6_init_245 : decode cX6_init 245 = .ok (.dup, 1) := dk_89 (dk_at dksX6_init_10 7 rfl rfl)
theorem dX6_init_246 : decode cX6_init 246 = .ok (.bipush 16, 2) := dk_16 16 (dk_at dksX6_init_10 8 rfl rfl)
theorem dX6_init_248 : decode cX6_init 248 = .ok (.bipush 119, 2) := dk_16 119 (dk_at dksX6_init_10 10 rfl rfl)
theorem dX6_init_250 : decode cX6_init 250 = .ok (.iastore, 1) := dk_79 (dk_at dksX6_init_10 12 rfl rfl)
theorem dX6_init_251 : decode cX6_init 251 = .ok (.dup, 1) := dk_89 (dk_at dksX6_init_10 13 rfl rfl)
theorem dX6_init_252 : decode cX6_init 252 = .ok (.bipush 17, 2) := dk_16 17 (dk_at dksX6_init_10 14 rfl rfl)
theorem dX6_init_254 : decode cX6_init 254 = .ok (.bipush 104, 2) := dk_16 104 (dk_at dksX6_init_10 16 rfl rfl)
theorem dX6_init_256 : decode cX6_init 256 = .ok (.iastore, 1) := dk_79 (dk_at dksX6_init_10 18 rfl rfl)
theorem dX6_init_257 : decode cX6_init 257 = .ok (.dup, 1) := dk_89 (dk_at dksX6_init_10 19 rfl rfl)
theorem dX6_init_258 : decode cX6_init 258 = .ok (.bipush 18, 2) := dk_16 18 (dk_at dksX6_init_10 20 rfl rfl)
theorem dX6_init_260 : decode cX6_init 260 = .ok (.bipush 101, 2) := dk_16 101 (dk_at dksX6_init_10 22 rfl rfl)
theorem dX6_init_262 : decode cX6_init 262 = .ok (.iastore, 1) := dk_79 (dk_at dksX6_init_11 0 rfl rfl)
theorem dX6_init_263 : decode cX6_init 263 = .ok (.dup, 1) := dk_89 (dk_at dksX6_init_11 1 rfl rfl)
theorem dX6_init_264 : decode cX6_init 264 = .ok (.bipush 19, 2) := dk_16 19 (dk_at dksX6_init_11 2 rfl rfl)
theorem dX6_init_266 : decode cX6_init 266 = .ok (.bipush 110, 2) := dk_16 110 (dk_at dksX6_init_11 4 rfl rfl)
theorem dX6_init_268 : decode cX6_init 268 = .ok (.iastore, 1) := dk_79 (dk_at dksX6_init_11 6 rfl rfl)
theorem dX6_init_269 : decode cX6_init 269 = .ok (.dup, 1) := dk_89 (dk_at dksX6_init_11 7 rfl rfl)
theorem dX6_init_270 : decode cX6_init 270 = .ok (.bipush 20, 2) := dk_16 20 (dk_at dksX6_init_11 8 rfl rfl)
theorem dX6_init_272 : decode cX6_init 272 = .ok (.bipush 32, 2) := dk_16 32 (dk_at dksX6_init_11 10 rfl rfl)
theorem dX6_init_274 : decode cX6_init 274 = .ok (.iastore, 1) := dk_79 (dk_at dksX6_init_11 12 rfl rfl)
theorem dX6_init_275 : decode cX6_init 275 = .ok (.dup, 1) := dk_89 (dk_at dksX6_init_11 13 rfl rfl)
theorem dX6_init_276 : decode cX6_init 276 = .ok (.bipush 21, 2) := dk_16 21 (dk_at dksX6_init_11 14 rfl rfl)
theorem dX6_init_278 : decode cX6_init 278 = .ok (.bipush 111, 2) := dk_16 111 (dk_at dksX6_init_11 16 rfl rfl)
theorem dX6_init_280 : decode cX6_init 280 = .ok (.iastore, 1) := dk_79 (dk_at dksX6_init_11 18 rfl rfl)
theorem dX6_init_281 : decode cX6_init 281 = .ok (.dup, 1) := dk_89 (dk_at dksX6_init_11 19 rfl rfl)
theorem dX6_init_282 : decode cX6_init 282 = .ok (.bipush 22, 2) := dk_16 22 (dk_at dksX6_init_11 20 rfl rfl)
theorem dX6_init_284 : decode cX6_init 284 = .ok (.bipush 114, 2) := dk_16 114 (dk_at dksX6_init_11 22 rfl rfl)
theorem dX6_init_286 : decode cX6_init 286 = .ok (.iastore, 1) := dk_79 (dk_at dksX6_init_12 0 rfl rfl)
theorem dX6_init_287 : decode cX6_init 287 = .ok (.dup, 1) := dk_89 (dk_at dksX6_init_12 1 rfl rfl)
theorem dX6_init_288 : decode cX6_init 288 = .ok (.bipush 23, 2) := dk_16 23 (dk_at dksX6_init_12 2 rfl rfl)
theorem dX6_init_290 : decode cX6_init 290 = .ok (.bipush 32, 2) := dk_16 32 (dk_at dksX6_init_12 4 rfl rfl)
theorem dX6_init_292 : decode cX6_init 292 = .ok (.iastore, 1) := dk_79 (dk_at dksX6_init_12 6 rfl rfl)
theorem dX6_init_293 : decode cX6_init 293 = .ok (.dup, 1) := dk_89 (dk_at dksX6_init_12 7 rfl rfl)
theorem dX6_init_294 : decode cX6_init 294 = .ok (.bipush 24, 2) := dk_16 24 (dk_at dksX6_init_12 8 rfl rfl)
theorem dX6_init_296 : decode cX6_init 296 = .ok (.bipush 97, 2) := dk_16 97 (dk_at dksX6_init_12 10 rfl rfl)
theorem dX6_init_298 : decode cX6_init 298 = .ok (.iastore, 1) := dk_79 (dk_at dksX6_init_12 12 rfl rfl)
theorem dX6_init_299 : decode cX6_init 299 = .ok (.dup, 1) := dk_89 (dk_at dksX6_init_12 13 rfl rfl)
theorem dX6_init_300 : decode cX6_init 300 = .ok (.bipush 25, 2) := dk_16 25 (dk_at dksX6_init_12 14 rfl rfl)
theorem dX6_init_302 : decode cX6_init 302 = .ok (.bipush 110, 2) := dk_16 110 (dk_at dksX6_init_12 16 rfl rfl)
theorem dX6_init_304 : decode cX6_init 304 = .ok (.iastore, 1) := dk_79 (dk_at dksX6_init_12 18 rfl rfl)
theorem dX6_init_305 : decode cX6_init 305 = .ok (.dup, 1) := dk_89 (dk_at dksX6_init_12 19 rfl rfl)
theorem dX6_init_306 : decode cX6_init 306 = .ok (.bipush 26, 2) := dk_16 26 (dk_at dksX6_init_12 20 rfl rfl)
theorem dX6_init_308 : decode cX6_init 308 = .ok (.bipush 100, 2) := dk_16 100 (dk_at dksX6_init_12 22 rfl rfl)
theorem dX6_init_310 : decode cX6_init 310 = .ok (.iastore, 1) := dk_79 (dk_at dksX6_init_13 0 rfl rfl)
theorem dX6_init_311 : decode cX6_init 311 = .ok (.dup, 1) := dk_89 (dk_at dksX6_init_13 1 rfl rfl)
theorem dX6_init_312 : decode cX6_init 312 = .ok (.bipush 27, 2) := dk_16 27 (dk_at dksX6_init_13 2 rfl rfl)
theorem dX6_init_314 : decode cX6_init 314 = .ok (.bipush 32, 2) := dk_16 32 (dk_at dksX6_init_13 4 rfl rfl)
theorem dX6_init_316 : decode cX6_init 316 = .ok (.iastore, 1) := dk_79 (dk_at dksX6_init_13 6 rfl rfl)
theorem dX6_init_317 : decode cX6_init 317 = .ok (.dup, 1) := dk_89 (dk_at dksX6_init_13 7 rfl rfl)
theorem dX6_init_318 : decode cX6_init 318 = .ok (.bipush 28, 2) := dk_16 28 (dk_at dksX6_init_13 8 rfl rfl)
theorem dX6_init_320 : decode cX6_init 320 = .ok (.bipush 110, 2) := dk_16 110 (dk_at dksX6_init_13 10 rfl rfl)
theorem dX6_init_322 : decode cX6_init 322 = .ok (.iastore, 1) := dk_79 (dk_at dksX6_init_13 12 rfl rfl)
theorem dX6_init_323 : decode cX6_init 323 = .ok (.dup, 1) := dk_89 (dk_at dksX6_init_13 13 rfl rfl)
theorem dX6_init_324 : decode cX6_init 324 = .ok (.bipush 29, 2) := dk_16 29 (dk_at dksX6_init_13 14 rfl rfl)
theorem dX6_init_326 : decode cX6_init 326 = .ok (.bipush 111, 2) := dk_16 111 (dk_at dksX6_init_13 16 rfl rfl)
theorem dX6_init_328 : decode cX6_init 328 = .ok (.iastore, 1) := dk_79 (dk_at dksX6_init_13 18 rfl rfl)
theorem dX6_init_329 : decode cX6_init 329 = .ok (.dup, 1) := dk_89 (dk_at dksX6_init_13 19 rfl rfl)
theorem dX6_init_330 : decode cX6_init 330 = .ok (.bipush 30, 2) := dk_16 30 (dk_at dksX6_init_13 20 rfl rfl)
theorem dX6_init_332 : decode cX6_init 332 = .ok (.bipush 116, 2) := dk_16 116 (dk_at dksX6_init_13 22 rfl rfl)
theorem dX6_init_334 : decode cX6_init 334 = .ok (.iastore, 1) := dk_79 (dk_at dksX6_init_14 0 rfl rfl)
theorem dX6_init_335 : decode cX6_init 335 = .ok (.dup, 1) := dk_89 (dk_at dksX6_init_14 1 rfl rfl)
theorem dX6_init_336 : decode cX6_init 336 = .ok (.bipush 31, 2) := dk_16 31 (dk_at dksX6_init_14 2 rfl rfl)
theorem dX6_init_338 : decode cX6_init 338 = .ok (.bipush 32, 2) := dk_16 32 (dk_at dksX6_init_14 4 rfl rfl)
theorem dX6_init_340 : decode cX6_init 340 = .ok (.iastore, 1) := dk_79 (dk_at dksX6_init_14 6 rfl rfl)
theorem dX6_init_341 : decode cX6_init 341 = .ok (.dup, 1) := dk_89 (dk_at dksX6_init_14 7 rfl rfl)
theorem dX6_init_342 : decode cX6_init 342 = .ok (.bipush 32, 2) := dk_16 32 (dk_at dksX6_init_14 8 rfl rfl)
theorem dX6_init_344 : decode cX6_init 344 = .ok (.bipush 107, 2) := dk_16 107 (dk_at dksX6_init_14 10 rfl rfl)
theorem dX6_init_346 : decode cX6_init 346 = .ok (.iastore, 1) := dk_79 (dk_at dksX6_init_14 12 rfl rfl)
theorem dX6_init_347 : decode cX6_init 347 = .ok (.dup, 1) := dk_89 (dk_at dksX6_init_14 13 rfl rfl)
theorem dX6_init_348 : decode cX6_init 348 = .ok (.bipush 33, 2) := dk_16 33 (dk_at dksX6_init_14 14 rfl rfl)
theorem dX6_init_350 : decode cX6_init 350 = .ok (.bipush 101, 2) := dk_16 101 (dk_at dksX6_init_14 16 rfl rfl)
theorem dX6_init_352 : decode cX6_init 352 = .ok (.iastore, 1) := dk_79 (dk_at dksX6_init_14 18 rfl rfl)
theorem dX6_init_353 : decode cX6_init 353 = .ok (.dup, 1) := dk_89 (dk_at dksX6_init_14 19 rfl rfl)
theorem dX6_init_354 : decode cX6_init 354 = .ok (.bipush 34, 2) := dk_16 34 (dk_at dksX6_init_14 20 rfl rfl)
theorem dX6_init_356 : decode cX6_init 356 = .ok (.bipush 112, 2) := dk_16 112 (dk_at dksX6_init_14 22 rfl rfl)
theorem dX6_init_358 : decode cX6_init 358 = .ok (.iastore, 1) := dk_79 (dk_at dksX6_init_15 0 rfl rfl)
theorem dX6_init_359 : decode cX6_init 359 = .ok (.dup, 1) := dk_89 (dk_at dksX6_init_15 1 rfl rfl)
theorem dX6_init_360 : decode cX6_init 360 = .ok (.bipush 35, 2) := dk_16 35 (dk_at dksX6_init_15 2 rfl rfl)
theorem dX6_init_362 : decode cX6_init 362 = .ok (.bipush 116, 2) := dk_16 116 (dk_at dksX6_init_15 4 rfl rfl)
theorem dX6_init_364 : decode cX6_init 364 = .ok (.iastore, 1) := dk_79 (dk_at dksX6_init_15 6 rfl rfl)
theorem dX6_init_365 : decode cX6_init 365 = .ok (.dup, 1) := dk_89 (dk_at dksX6_init_15 7 rfl rfl)
theorem dX6_init_366 : decode cX6_init 366 = .ok (.bipush 36, 2) := dk_16 36 (dk_at dksX6_init_15 8 rfl rfl)
theorem dX6_init_368 : decode cX6_init 368 = .ok (.bipush 32, 2) := dk_16 32 (dk_at dksX6_init_15 10 rfl rfl)
theorem dX6_init_370 : decode cX6_init 370 = .ok (.iastore, 1) := dk_79 (dk_at dksX6_init_15 12 rfl rfl)
theorem dX6_init_371 : decode cX6_init 371 = .ok (.dup, 1) := dk_89 (dk_at dksX6_init_15 13 rfl rfl)
theorem dX6_init_372 : decode cX6_init 372 = .ok (.bipush 37, 2) := dk_16 37 (dk_at dksX6_init_15 14 rfl rfl)
theorem dX6_init_374 : decode cX6_init 374 = .ok (.bipush 98, 2) := dk_16 98 (dk_at dksX6_init_15 16 rfl rfl)
theorem dX6_init_376 : decode cX6_init 376 = .ok (.iastore, 1) := dk_79 (dk_at dksX6_init_15 18 rfl rfl)
theorem dX6_init_377 : decode cX6_init 377 = .ok (.dup, 1) := dk_89 (dk_at dksX6_init_15 19 rfl rfl)
theorem dX6_init_378 : decode cX6_init 378 = .ok (.bipush 38, 2) := dk_16 38 (dk_at dksX6_init_15 20 rfl rfl)
theorem dX6_init_380 : decode cX6_init 380 = .ok (.bipush 114, 2) := dk_16 114 (dk_at dksX6_init_15 22 rfl rfl)
theorem dX6_init_382 : decode cX6_init 382 = .ok (.iastore, 1) := dk_79 (dk_at dksX6_init_16 0 rfl rfl)
theorem dX6_init_383 : decode cX6_init 383 = .ok (.dup, 1) := dk_89 (dk_at dksX6_init_16 1 rfl rfl)
theorem dX6_init_384 : decode cX6_init 384 = .ok (.bipush 39, 2) := dk_16 39 (dk_at dksX6_init_16 2 rfl rfl)
theorem dX6_init_386 : decode cX6_init 386 = .ok (.bipush 111, 2) := dk_16 111 (dk_at dksX6_init_16 4 rfl rfl)
theorem dX6_init_388 : decode cX6_init 388 = .ok (.iastore, 1) := dk_79 (dk_at dksX6_init_16 6 rfl rfl)
theorem dX6_init_389 : decode cX6_init 389 = .ok (.dup, 1) := dk_89 (dk_at dksX6_init_16 7 rfl rfl)
theorem dX6_init_390 : decode cX6_init 390 = .ok (.bipush 40, 2) := dk_16 40 (dk_at dksX6_init_16 8 rfl rfl)
theorem dX6_init_392 : decode cX6_init 392 = .ok (.bipush 107, 2) := dk_16 107 (dk_at dksX6_init_16 10 rfl rfl)
theorem dX6_init_394 : decode cX6_init 394 = .ok (.iastore, 1) := dk_79 (dk_at dksX6_init_16 12 rfl rfl)
theorem dX6_init_395 : decode cX6_init 395 = .ok (.dup, 1) := dk_89 (dk_at dksX6_init_16 13 rfl rfl)
theorem dX6_init_396 : decode cX6_init 396 = .ok (.bipush 41, 2) := dk_16 41 (dk_at dksX6_init_16 14 rfl rfl)
theorem dX6_init_398 : decode cX6_init 398 = .ok (.bipush 101, 2) := dk_16 101 (dk_at dksX6_init_16 16 rfl rfl)
theorem dX6_init_400 : decode cX6_init 400 = .ok (.iastore, 1) := dk_79 (dk_at dksX6_init_16 18 rfl rfl)
theorem dX6_init_401 : decode cX6_init 401 = .ok (.dup, 1) := dk_89 (dk_at dksX6_init_16 19 rfl rfl)
theorem dX6_init_402 : decode cX6_init 402 = .ok (.bipush 42, 2) := dk_16 42 (dk_at dksX6_init_16 20 rfl rfl)
theorem dX6_init_404 : decode cX6_init 404 = .ok (.bipush 110, 2) := dk_16 110 (dk_at dksX6_init_16 22 rfl rfl)
theorem dX6_init_406 : decode cX6_init 406 = .ok (.iastore, 1) := dk_79 (dk_at dksX6_init_17 0 rfl rfl)
theorem dX6_init_407 : decode cX6_init 407 = .ok (.dup, 1) := dk_89 (dk_at dksX6_init_17 1 rfl rfl)
theorem dX6_init_408 : decode cX6_init 408 = .ok (.bipush 43, 2) := dk_16 43 (dk_at dksX6_init_17 2 rfl rfl)
theorem dX6_init_410 : decode cX6_init 410 = .ok (.bipush 32, 2) := dk_16 32 (dk_at dksX6_init_17 4 rfl rfl)
theorem dX6_init_412 : decode cX6_init 412 = .ok (.iastore, 1) := dk_79 (dk_at dksX6_init_17 6 rfl rfl)
theorem dX6_init_413 : decode cX6_init 413 = .ok (.dup, 1) := dk_89 (dk_at dksX6_init_17 7 rfl rfl)
theorem dX6_init_414 : decode cX6_init 414 = .ok (.bipush 44, 2) := dk_16 44 (dk_at dksX6_init_17 8 rfl rfl)
theorem dX6_init_416 : decode cX6_init 416 = .ok (.bipush 108, 2) := dk_16 108 (dk_at dksX6_init_17 10 rfl rfl)
theorem dX6_init_418 : decode cX6_init 418 = .ok (.iastore, 1) := dk_79 (dk_at dksX6_init_17 12 rfl rfl)
theorem dX6_init_419 : decode cX6_init 419 = .ok (.dup, 1) := dk_89 (dk_at dksX6_init_17 13 rfl rfl)
theorem dX6_init_420 : decode cX6_init 420 = .ok (.bipush 45, 2) := dk_16 45 (dk_at dksX6_init_17 14 rfl rfl)
theorem dX6_init_422 : decode cX6_init 422 = .ok (.bipush 97, 2) := dk_16 97 (dk_at dksX6_init_17 16 rfl rfl)
theorem dX6_init_424 : decode cX6_init 424 = .ok (.iastore, 1) := dk_79 (dk_at dksX6_init_17 18 rfl rfl)
theorem dX6_init_425 : decode cX6_init 425 = .ok (.dup, 1) := dk_89 (dk_at dksX6_init_17 19 rfl rfl)
theorem dX6_init_426 : decode cX6_init 426 = .ok (.bipush 46, 2) := dk_16 46 (dk_at dksX6_init_17 20 rfl rfl)
theorem dX6_init_428 : decode cX6_init 428 = .ok (.bipush 114, 2) := dk_16 114 (dk_at dksX6_init_17 22 rfl rfl)
theorem dX6_init_430 : decode cX6_init 430 = .ok (.iastore, 1) := dk_79 (dk_at dksX6_init_18 0 rfl rfl)
theorem dX6_init_431 : decode cX6_init 431 = .ok (.dup, 1) := dk_89 (dk_at dksX6_init_18 1 rfl rfl)
theorem dX6_init_432 : decode cX6_init 432 = .ok (.bipush 47, 2) := dk_16 47 (dk_at dksX6_init_18 2 rfl rfl)
theorem dX6_init_434 : decode cX6_init 434 = .ok (.bipush 103, 2) := dk_16 103 (dk_at dksX6_init_18 4 rfl rfl)
theorem dX6_init_436 : decode cX6_init 436 = .ok (.iastore, 1) := dk_79 (dk_at dksX6_init_18 6 rfl rfl)
theorem dX6_init_437 : decode cX6_init 437 = .ok (.dup, 1) := dk_89 (dk_at dksX6_init_18 7 rfl rfl)
theorem dX6_init_438 : decode cX6_init 438 = .ok (.bipush 48, 2) := dk_16 48 (dk_at dksX6_init_18 8 rfl rfl)
theorem dX6_init_440 : decode cX6_init 440 = .ok (.bipush 101, 2) := dk_16 101 (dk_at dksX6_init_18 10 rfl rfl)
theorem dX6_init_442 : decode cX6_init 442 = .ok (.iastore, 1) := dk_79 (dk_at dksX6_init_18 12 rfl rfl)
theorem dX6_init_443 : decode cX6_init 443 = .ok (.dup, 1) := dk_89 (dk_at dksX6_init_18 13 rfl rfl)
theorem dX6_init_444 : decode cX6_init 444 = .ok (.bipush 49, 2) := dk_16 49 (dk_at dksX6_init_18 14 rfl rfl)
theorem dX6_init_446 : decode cX6_init 446 = .ok (.bipush 32, 2) := dk_16 32 (dk_at dksX6_init_18 16 rfl rfl)
theorem dX6_init_448 : decode cX6_init 448 = .ok (.iastore, 1) := dk_79 (dk_at dksX6_init_18 18 rfl rfl)
theorem dX6_init_449 : decode cX6_init 449 = .ok (.dup, 1) := dk_89 (dk_at dksX6_init_18 19 rfl rfl)
theorem dX6_init_450 : decode cX6_init 450 = .ok (.bipush 50, 2) := dk_16 50 (dk_at dksX6_init_18 20 rfl rfl)
theorem dX6_init_452 : decode cX6_init 452 = .ok (.bipush 108, 2) := dk_16 108 (dk_at dksX6_init_18 22 rfl rfl)
theorem dX6_init_454 : decode cX6_init 454 = .ok (.iastore, 1) := dk_79 (dk_at dksX6_init_19 0 rfl rfl)
theorem dX6_init_455 : decode cX6_init 455 = .ok (.dup, 1) := dk_89 (dk_at dksX6_init_19 1 rfl rfl)
theorem dX6_init_456 : decode cX6_init 456 = .ok (.bipush 51, 2) := dk_16 51 (dk_at dksX6_init_19 2 rfl rfl)
theorem dX6_init_458 : decode cX6_init 458 = .ok (.bipush 111, 2) := dk_16 111 (dk_at dksX6_init_19 4 rfl rfl)
theorem dX6_init_460 : decode cX6_init 460 = .ok (.iastore, 1) := dk_79 (dk_at dksX6_init_19 6 rfl rfl)
theorem dX6_init_461 : decode cX6_init 461 = .ok (.dup, 1) := dk_89 (dk_at dksX6_init_19 7 rfl rfl)
theorem dX6_init_462 : decode cX6_init 462 = .ok (.bipush 52, 2) := dk_16 52 (dk_at dksX6_init_19 8 rfl rfl)
theorem dX6_init_464 : decode cX6_init 464 = .ok (.bipush 115, 2) := dk_16 115 (dk_at dksX6_init_19 10 rfl rfl)
theorem dX6_init_466 : decode cX6_init 466 = .ok (.iastore, 1) := dk_79 (dk_at dksX6_init_19 12 rfl rfl)
theorem dX6_init_467 : decode cX6_init 467 = .ok (.dup, 1) := dk_89 (dk_at dksX6_init_19 13 rfl rfl)
theorem dX6_init_468 : decode cX6_init 468 = .ok (.bipush 53, 2) := dk_16 53 (dk_at dksX6_init_19 14 rfl rfl)
theorem dX6_init_470 : decode cX6_init 470 = .ok (.bipush 116, 2) := dk_16 116 (dk_at dksX6_init_19 16 rfl rfl)
theorem dX6_init_472 : decode cX6_init 472 = .ok (.iastore, 1) := dk_79 (dk_at dksX6_init_19 18 rfl rfl)
theorem dX6_init_473 : decode cX6_init 473 = .ok (.dup, 1) := dk_89 (dk_at dksX6_init_19 19 rfl rfl)
theorem dX6_init_474 : decode cX6_init 474 = .ok (.bipush 54, 2) := dk_16 54 (dk_at dksX6_init_19 20 rfl rfl)
theorem dX6_init_476 : decode cX6_init 476 = .ok (.bipush 32, 2) := dk_16 32 (dk_at dksX6_init_19 22 rfl rfl)
theorem dX6_init_478 : decode cX6_init 478 = .ok (.iastore, 1) := dk_79 (dk_at dksX6_init_20 0 rfl rfl)
theorem dX6_init_479 : decode cX6_init 479 = .ok (.dup, 1) := dk_89 (dk_at dksX6_init_20 1 rfl rfl)
theorem dX6_init_480 : decode cX6_init 480 = .ok (.bipush 55, 2) := dk_16 55 (dk_at dksX6_init_20 2 rfl rfl)
theorem dX6_init_482 : decode cX6_init 482 = .ok (.bipush 115, 2) := dk_16 115 (dk_at dksX6_init_20 4 rfl rfl)
theorem dX6_init_484 : decode cX6_init 484 = .ok (.iastore, 1) := dk_79 (dk_at dksX6_init_20 6 rfl rfl)
theorem dX6_init_485 : decode cX6_init 485 = .ok (.dup, 1) := dk_89 (dk_at dksX6_init_20 7 rfl rfl)
theorem dX6_init_486 : decode cX6_init 486 = .ok (.bipush 56, 2) := dk_16 56 (dk_at dksX6_init_20 8 rfl rfl)
theorem dX6_init_488 : decode cX6_init 488 = .ok (.bipush 105, 2) := dk_16 105 (dk_at dksX6_init_20 10 rfl rfl)
theorem dX6_init_490 : decode cX6_init 490 = .ok (.iastore, 1) := dk_79 (dk_at dksX6_init_20 12 rfl rfl)
theorem dX6_init_491 : decode cX6_init 491 = .ok (.dup, 1) := dk_89 (dk_at dksX6_init_20 13 rfl rfl)
theorem dX6_init_492 : decode cX6_init 492 = .ok (.bipush 57, 2) := dk_16 57 (dk_at dksX6_init_20 14 rfl rfl)
theorem dX6_init_494 : decode cX6_init 494 = .ok (.bipush 122, 2) := dk_16 122 (dk_at dksX6_init_20 16 rfl rfl)
theorem dX6_init_496 : decode cX6_init 496 = .ok (.iastore, 1) := dk_79 (dk_at dksX6_init_20 18 rfl rfl)
theorem dX6_init_497 : decode cX6_init 497 = .ok (.dup, 1) := dk_89 (dk_at dksX6_init_20 19 rfl rfl)
theorem dX6_init_498 : decode cX6_init 498 = .ok (.bipush 58, 2) := dk_16 58 (dk_at dksX6_init_20 20 rfl rfl)
theorem dX6_init_500 : decode cX6_init 500 = .ok (.bipush 101, 2) := dk_16 101 (dk_at dksX6_init_20 22 rfl rfl)
theorem dX6_init_502 : decode cX6_init 502 = .ok (.iastore, 1) := dk_79 (dk_at dksX6_init_21 0 rfl rfl)
theorem dX6_init_503 : decode cX6_init 503 = .ok (.dup, 1) := dk_89 (dk_at dksX6_init_21 1 rfl rfl)
theorem dX6_init_504 : decode cX6_init 504 = .ok (.bipush 59, 2) := dk_16 59 (dk_at dksX6_init_21 2 rfl rfl)
theorem dX6_init_506 : decode cX6_init 506 = .ok (.bipush 32, 2) := dk_16 32 (dk_at dksX6_init_21 4 rfl rfl)
theorem dX6_init_508 : decode cX6_init 508 = .ok (.iastore, 1) := dk_79 (dk_at dksX6_init_21 6 rfl rfl)
theorem dX6_init_509 : decode cX6_init 509 = .ok (.dup, 1) := dk_89 (dk_at dksX6_init_21 7 rfl rfl)
theorem dX6_init_510 : decode cX6_init 510 = .ok (.bipush 60, 2) := dk_16 60 (dk_at dksX6_init_21 8 rfl rfl)
theorem dX6_init_512 : decode cX6_init 512 = .ok (.bipush 97, 2) := dk_16 97 (dk_at dksX6_init_21 10 rfl rfl)
theorem dX6_init_514 : decode cX6_init 514 = .ok (.iastore, 1) := dk_79 (dk_at dksX6_init_21 12 rfl rfl)
theorem dX6_init_515 : decode cX6_init 515 = .ok (.dup, 1) := dk_89 (dk_at dksX6_init_21 13 rfl rfl)
theorem dX6_init_516 : decode cX6_init 516 = .ok (.bipush 61, 2) := dk_16 61 (dk_at dksX6_init_21 14 rfl rfl)
theorem dX6_init_518 : decode cX6_init 518 = .ok (.bipush 103, 2) := dk_16 103 (dk_at dksX6_init_21 16 rfl rfl)
theorem dX6_init_520 : decode cX6_init 520 = .ok (.iastore, 1) := dk_79 (dk_at dksX6_init_21 18 rfl rfl)
theorem dX6_init_521 : decode cX6_init 521 = .ok (.dup, 1) := dk_89 (dk_at dksX6_init_21 19 rfl rfl)
theorem dX6_init_522 : decode cX6_init 522 = .ok (.bipush 62, 2) := dk_16 62 (dk_at dksX6_init_21 20 rfl rfl)
theorem dX6_init_524 : decode cX6_init 524 = .ok (.bipush 101, 2) := dk_16 101 (dk_at dksX6_init_21 22 rfl rfl)
theorem dX6_init_526 : decode cX6_init 526 = .ok (.iastore, 1) := dk_79 (dk_at dksX6_init_22 0 rfl rfl)
theorem dX6_init_527 : decode cX6_init 527 = .ok (.dup, 1) := dk_89 (dk_at dksX6_init_22 1 rfl rfl)
theorem dX6_init_528 : decode cX6_init 528 = .ok (.bipush 63, 2) := dk_16 63 (dk_at dksX6_init_22 2 rfl rfl)
theorem dX6_init_530 : decode cX6_init 530 = .ok (.bipush 32, 2) := dk_16 32 (dk_at dksX6_init_22 4 rfl rfl)
theorem dX6_init_532 : decode cX6_init 532 = .ok (.iastore, 1) := dk_79 (dk_at dksX6_init_22 6 rfl rfl)
theorem dX6_init_533 : decode cX6_init 533 = .ok (.dup, 1) := dk_89 (dk_at dksX6_init_22 7 rfl rfl)
theorem dX6_init_534 : decode cX6_init 534 = .ok (.bipush 64, 2) := dk_16 64 (dk_at dksX6_init_22 8 rfl rfl)
theorem dX6_init_536 : decode cX6_init 536 = .ok (.bipush 121, 2) := dk_16 121 (dk_at dksX6_init_22 10 rfl rfl)
theorem dX6_init_538 : decode cX6_init 538 = .ok (.iastore, 1) := dk_79 (dk_at dksX6_init_22 12 rfl rfl)
theorem dX6_init_539 : decode cX6_init 539 = .ok (.dup, 1) := dk_89 (dk_at dksX6_init_22 13 rfl rfl)
theorem dX6_init_540 : decode cX6_init 540 = .ok (.bipush 65, 2) := dk_16 65 (dk_at dksX6_init_22 14 rfl rfl)
theorem dX6_init_542 : decode cX6_init 542 = .ok (.bipush 101, 2) := dk_16 101 (dk_at dksX6_init_22 16 rfl rfl)
theorem dX6_init_544 : decode cX6_init 544 = .ok (.iastore, 1) := dk_79 (dk_at dksX6_init_22 18 rfl rfl)
theorem dX6_init_545 : decode cX6_init 545 = .ok (.dup, 1) := dk_89 (dk_at dksX6_init_22 19 rfl rfl)
theorem dX6_init_546 : decode cX6_init 546 = .ok (.bipush 66, 2) := dk_16 66 (dk_at dksX6_init_22 20 rfl rfl)
theorem dX6_init_548 : decode cX6_init 548 = .ok (.bipush 97, 2) := dk_16 97 (dk_at dksX6_init_22 22 rfl rfl)
theorem dX6_init_550 : decode cX6_init 550 = .ok (.iastore, 1) := dk_79 (dk_at dksX6_init_23 0 rfl rfl)
theorem dX6_init_551 : decode cX6_init 551 = .ok (.dup, 1) := dk_89 (dk_at dksX6_init_23 1 rfl rfl)
theorem dX6_init_552 : decode cX6_init 552 = .ok (.bipush 67, 2) := dk_16 67 (dk_at dksX6_init_23 2 rfl rfl)
theorem dX6_init_554 : decode cX6_init 554 = .ok (.bipush 114, 2) := dk_16 114 (dk_at dksX6_init_23 4 rfl rfl)
theorem dX6_init_556 : decode cX6_init 556 = .ok (.iastore, 1) := dk_79 (dk_at dksX6_init_23 6 rfl rfl)
theorem dX6_init_557 : decode cX6_init 557 = .ok (.dup, 1) := dk_89 (dk_at dksX6_init_23 7 rfl rfl)
theorem dX6_init_558 : decode cX6_init 558 = .ok (.bipush 68, 2) := dk_16 68 (dk_at dksX6_init_23 8 rfl rfl)
theorem dX6_init_560 : decode cX6_init 560 = .ok (.bipush 32, 2) := dk_16 32 (dk_at dksX6_init_23 10 rfl rfl)
theorem dX6_init_562 : decode cX6_init 562 = .ok (.iastore, 1) := dk_79 (dk_at dksX6_init_23 12 rfl rfl)
theorem dX6_init_563 : decode cX6_init 563 = .ok (.dup, 1) := dk_89 (dk_at dksX6_init_23 13 rfl rfl)
theorem dX6_init_564 : decode cX6_init 564 = .ok (.bipush 69, 2) := dk_16 69 (dk_at dksX6_init_23 14 rfl rfl)
theorem dX6_init_566 : decode cX6_init 566 = .ok (.bipush 111, 2) := dk_16 111 (dk_at dksX6_init_23 16 rfl rfl)
theorem dX6_init_568 : decode cX6_init 568 = .ok (.iastore, 1) := dk_79 (dk_at dksX6_init_23 18 rfl rfl)
theorem dX6_init_569 : decode cX6_init 569 = .ok (.dup, 1) := dk_89 (dk_at dksX6_init_23 19 rfl rfl)
theorem dX6_init_570 : decode cX6_init 570 = .ok (.bipush 70, 2) := dk_16 70 (dk_at dksX6_init_23 20 rfl rfl)
theorem dX6_init_572 : decode cX6_init 572 = .ok (.bipush 107, 2) := dk_16 107 (dk_at dksX6_init_23 22 rfl rfl)
theorem dX6_init_574 : decode cX6_init 574 = .ok (.iastore, 1) := dk_79 (dk_at dksX6_init_24 0 rfl rfl)
theorem dX6_init_575 : decode cX6_init 575 = .ok (.dup, 1) := dk_89 (dk_at dksX6_init_24 1 rfl rfl)
theorem dX6_init_576 : decode cX6_init 576 = .ok (.bipush 71, 2) := dk_16 71 (dk_at dksX6_init_24 2 rfl rfl)
theorem dX6_init_578 : decode cX6_init 578 = .ok (.bipush 101, 2) := dk_16 101 (dk_at dksX6_init_24 4 rfl rfl)
theorem dX6_init_580 : decode cX6_init 580 = .ok (.iastore, 1) := dk_79 (dk_at dksX6_init_24 6 rfl rfl)
theorem dX6_init_581 : decode cX6_init 581 = .ok (.dup, 1) := dk_89 (dk_at dksX6_init_24 7 rfl rfl)
theorem dX6_init_582 : decode cX6_init 582 = .ok (.bipush 72, 2) := dk_16 72 (dk_at dksX6_init_24 8 rfl rfl)
theorem dX6_init_584 : decode cX6_init 584 = .ok (.bipush 112, 2) := dk_16 112 (dk_at dksX6_init_24 10 rfl rfl)
theorem dX6_init_586 : decode cX6_init 586 = .ok (.iastore, 1) := dk_79 (dk_at dksX6_init_24 12 rfl rfl)
theorem dX6_init_587 : decode cX6_init 587 = .ok (.dup, 1) := dk_89 (dk_at dksX6_init_24 13 rfl rfl)
theorem dX6_init_588 : decode cX6_init 588 = .ok (.bipush 73, 2) := dk_16 73 (dk_at dksX6_init_24 14 rfl rfl)
theorem dX6_init_590 : decode cX6_init 590 = .ok (.bipush 116, 2) := dk_16 116 (dk_at dksX6_init_24 16 rfl rfl)
theorem dX6_init_592 : decode cX6_init 592 = .ok (.iastore, 1) := dk_79 (dk_at dksX6_init_24 18 rfl rfl)
theorem dX6_init_593 : decode cX6_init 593 = .ok (.dup, 1) := dk_89 (dk_at dksX6_init_24 19 rfl rfl)
theorem dX6_init_594 : decode cX6_init 594 = .ok (.bipush 74, 2) := dk_16 74 (dk_at dksX6_init_24 20 rfl rfl)
theorem dX6_init_596 : decode cX6_init 596 = .ok (.bipush 32, 2) := dk_16 32 (dk_at dksX6_init_24 22 rfl rfl)
theorem dX6_init_598 : decode cX6_init 598 = .ok (.iastore, 1) := dk_79 (dk_at dksX6_init_25 0 rfl rfl)
theorem dX6_init_599 : decode cX6_init 599 = .ok (.dup, 1) := dk_89 (dk_at dksX6_init_25 1 rfl rfl)
theorem dX6_init_600 : decode cX6_init 600 = .ok (.bipush 75, 2) := dk_16 75 (dk_at dksX6_init_25 2 rfl rfl)
theorem dX6_init_602 : decode cX6_init 602 = .ok (.bipush 111, 2) := dk_16 111 (dk_at dksX6_init_25 4 rfl rfl)
theorem dX6_init_604 : decode cX6_init 604 = .ok (.iastore, 1) := dk_79 (dk_at dksX6_init_25 6 rfl rfl)
theorem dX6_init_605 : decode cX6_init 605 = .ok (.dup, 1) := dk_89 (dk_at dksX6_init_25 7 rfl rfl)
theorem dX6_init_606 : decode cX6_init 606 = .ok (.bipush 76, 2) := dk_16 76 (dk_at dksX6_init_25 8 rfl rfl)
theorem dX6_init_608 : decode cX6_init 608 = .ok (.bipush 98, 2) := dk_16 98 (dk_at dksX6_init_25 10 rfl rfl)
theorem dX6_init_610 : decode cX6_init 610 = .ok (.iastore, 1) := dk_79 (dk_at dksX6_init_25 12 rfl rfl)
theorem dX6_init_611 : decode cX6_init 611 = .ok (.dup, 1) := dk_89 (dk_at dksX6_init_25 13 rfl rfl)
theorem dX6_init_612 : decode cX6_init 612 = .ok (.bipush 77, 2) := dk_16 77 (dk_at dksX6_init_25 14 rfl rfl)
theorem dX6_init_614 : decode cX6_init 614 = .ok (.bipush 114, 2) := dk_16 114 (dk_at dksX6_init_25 16 rfl rfl)
theorem dX6_init_616 : decode cX6_init 616 = .ok (.iastore, 1) := dk_79 (dk_at dksX6_init_25 18 rfl rfl)
theorem dX6_init_617 : decode cX6_init 617 = .ok (.dup, 1) := dk_89 (dk_at dksX6_init_25 19 rfl rfl)
theorem dX6_init_618 : decode cX6_init 618 = .ok (.bipush 78, 2) := dk_16 78 (dk_at dksX6_init_25 20 rfl rfl)
theorem dX6_init_620 : decode cX6_init 620 = .ok (.bipush 111, 2) := dk_16 111 (dk_at dksX6_init_25 22 rfl rfl)
theorem dX6_init_622 : decode cX6_init 622 = .ok (.iastore, 1) := dk_79 (dk_at dksX6_init_26 0 rfl rfl)
theorem dX6_init_623 : decode cX6_init 623 = .ok (.dup, 1) := dk_89 (dk_at dksX6_init_26 1 rfl rfl)
theorem dX6_init_624 : decode cX6_init 624 = .ok (.bipush 79, 2) := dk_16 79 (dk_at dksX6_init_26 2 rfl rfl)
theorem dX6_init_626 : decode cX6_init 626 = .ok (.bipush 107, 2) := dk_16 107 (dk_at dksX6_init_26 4 rfl rfl)
theorem dX6_init_628 : decode cX6_init 628 = .ok (.iastore, 1) := dk_79 (dk_at dksX6_init_26 6 rfl rfl)
theorem dX6_init_629 : decode cX6_init 629 = .ok (.dup, 1) := dk_89 (dk_at dksX6_init_26 7 rfl rfl)
theorem dX6_init_630 : decode cX6_init 630 = .ok (.bipush 80, 2) := dk_16 80 (dk_at dksX6_init_26 8 rfl rfl)
theorem dX6_init_632 : decode cX6_init 632 = .ok (.bipush 101, 2) := dk_16 101 (dk_at dksX6_init_26 10 rfl rfl)
theorem dX6_init_634 : decode cX6_init 634 = .ok (.iastore, 1) := dk_79 (dk_at dksX6_init_26 12 rfl rfl)
theorem dX6_init_635 : decode cX6_init 635 = .ok (.dup, 1) := dk_89 (dk_at dksX6_init_26 13 rfl rfl)
theorem dX6_init_636 : decode cX6_init 636 = .ok (.bipush 81, 2) := dk_16 81 (dk_at dksX6_init_26 14 rfl rfl)
theorem dX6_init_638 : decode cX6_init 638 = .ok (.bipush 110, 2) := dk_16 110 (dk_at dksX6_init_26 16 rfl rfl)
theorem dX6_init_640 : decode cX6_init 640 = .ok (.iastore, 1) := dk_79 (dk_at dksX6_init_26 18 rfl rfl)
theorem dX6_init_641 : decode cX6_init 641 = .ok (.dup, 1) := dk_89 (dk_at dksX6_init_26 19 rfl rfl)
theorem dX6_init_642 : decode cX6_init 642 = .ok (.bipush 82, 2) := dk_16 82 (dk_at dksX6_init_26 20 rfl rfl)
theorem dX6_init_644 : decode cX6_init 644 = .ok (.bipush 32, 2) := dk_16 32 (dk_at dksX6_init_26 22 rfl rfl)
theorem dX6_init_646 : decode cX6_init 646 = .ok (.iastore, 1) := dk_79 (dk_at dksX6_init_27 0 rfl rfl)
theorem dX6_init_647 : decode cX6_init 647 = .ok (.dup, 1) := dk_89 (dk_at dksX6_init_27 1 rfl rfl)
theorem dX6_init_648 : decode cX6_init 648 = .ok (.bipush 83, 2) := dk_16 83 (dk_at dksX6_init_27 2 rfl rfl)
theorem dX6_init_650 : decode cX6_init 650 = .ok (.bipush 111, 2) := dk_16 111 (dk_at dksX6_init_27 4 rfl rfl)
theorem dX6_init_652 : decode cX6_init 652 = .ok (.iastore, 1) := dk_79 (dk_at dksX6_init_27 6 rfl rfl)
theorem dX6_init_653 : decode cX6_init 653 = .ok (.dup, 1) := dk_89 (dk_at dksX6_init_27 7 rfl rfl)
theorem dX6_init_654 : decode cX6_init 654 = .ok (.bipush 84, 2) := dk_16 84 (dk_at dksX6_init_27 8 rfl rfl)
theorem dX6_init_656 : decode cX6_init 656 = .ok (.bipush 108, 2) := dk_16 108 (dk_at dksX6_init_27 10 rfl rfl)
theorem dX6_init_658 : decode cX6_init 658 = .ok (.iastore, 1) := dk_79 (dk_at dksX6_init_27 12 rfl rfl)
theorem dX6_init_659 : decode cX6_init 659 = .ok (.dup, 1) := dk_89 (dk_at dksX6_init_27 13 rfl rfl)
theorem dX6_init_660 : decode cX6_init 660 = .ok (.bipush 85, 2) := dk_16 85 (dk_at dksX6_init_27 14 rfl rfl)
theorem dX6_init_662 : decode cX6_init 662 = .ok (.bipush 97, 2) := dk_16 97 (dk_at dksX6_init_27 16 rfl rfl)
theorem dX6_init_664 : decode cX6_init 664 = .ok (.iastore, 1) := dk_79 (dk_at dksX6_init_27 18 rfl rfl)
theorem dX6_init_665 : decode cX6_init 665 = .ok (.dup, 1) := dk_89 (dk_at dksX6_init_27 19 rfl rfl)
theorem dX6_init_666 : decode cX6_init 666 = .ok (.bipush 86, 2) := dk_16 86 (dk_at dksX6_init_27 20 rfl rfl)
theorem dX6_init_668 : decode cX6_init 668 = .ok (.bipush 114, 2) := dk_16 114 (dk_at dksX6_init_27 22 rfl rfl)
theorem dX6_init_670 : decode cX6_init 670 = .ok (.iastore, 1) := dk_79 (dk_at dksX6_init_28 0 rfl rfl)
theorem dX6_init_671 : decode cX6_init 671 = .ok (.dup, 1) := dk_89 (dk_at dksX6_init_28 1 rfl rfl)
theorem dX6_init_672 : decode cX6_init 672 = .ok (.bipush 87, 2) := dk_16 87 (dk_at dksX6_init_28 2 rfl rfl)
theorem dX6_init_674 : decode cX6_init 674 = .ok (.bipush 103, 2) := dk_16 103 (dk_at dksX6_init_28 4 rfl rfl)
theorem dX6_init_676 : decode cX6_init 676 = .ok (.iastore, 1) := dk_79 (dk_at dksX6_init_28 6 rfl rfl)
theorem dX6_init_677 : decode cX6_init 677 = .ok (.dup, 1) := dk_89 (dk_at dksX6_init_28 7 rfl rfl)
theorem dX6_init_678 : decode cX6_init 678 = .ok (.bipush 88, 2) := dk_16 88 (dk_at dksX6_init_28 8 rfl rfl)
theorem dX6_init_680 : decode cX6_init 680 = .ok (.bipush 101, 2) := dk_16 101 (dk_at dksX6_init_28 10 rfl rfl)
theorem dX6_init_682 : decode cX6_init 682 = .ok (.iastore, 1) := dk_79 (dk_at dksX6_init_28 12 rfl rfl)
theorem dX6_init_683 : decode cX6_init 683 = .ok (.dup, 1) := dk_89 (dk_at dksX6_init_28 13 rfl rfl)
theorem dX6_init_684 : decode cX6_init 684 = .ok (.bipush 89, 2) := dk_16 89 (dk_at dksX6_init_28 14 rfl rfl)
theorem dX6_init_686 : decode cX6_init 686 = .ok (.bipush 32, 2) := dk_16 32 (dk_at dksX6_init_28 16 rfl rfl)
theorem dX6_init_688 : decode cX6_init 688 = .ok (.iastore, 1) := dk_79 (dk_at dksX6_init_28 18 rfl rfl)
theorem dX6_init_689 : decode cX6_init 689 = .ok (.dup, 1) := dk_89 (dk_at dksX6_init_28 19 rfl rfl)
theorem dX6_init_690 : decode cX6_init 690 = .ok (.bipush 90, 2) := dk_16 90 (dk_at dksX6_init_28 20 rfl rfl)
theorem dX6_init_692 : decode cX6_init 692 = .ok (.bipush 111, 2) := dk_16 111 (dk_at dksX6_init_28 22 rfl rfl)
theorem dX6_init_694 : decode cX6_init 694 = .ok (.iastore, 1) := dk_79 (dk_at dksX6_init_29 0 rfl rfl)
theorem dX6_init_695 : decode cX6_init 695 = .ok (.dup, 1) := dk_89 (dk_at dksX6_init_29 1 rfl rfl)
theorem dX6_init_696 : decode cX6_init 696 = .ok (.bipush 91, 2) := dk_16 91 (dk_at dksX6_init_29 2 rfl rfl)
theorem dX6_init_698 : decode cX6_init 698 = .ok (.bipush 108, 2) := dk_16 108 (dk_at dksX6_init_29 4 rfl rfl)
theorem dX6_init_700 : decode cX6_init 700 = .ok (.iastore, 1) := dk_79 (dk_at dksX6_init_29 6 rfl rfl)
theorem dX6_init_701 : decode cX6_init 701 = .ok (.dup, 1) := dk_89 (dk_at dksX6_init_29 7 rfl rfl)
theorem dX6_init_702 : decode cX6_init 702 = .ok (.bipush 92, 2) := dk_16 92 (dk_at dksX6_init_29 8 rfl rfl)
theorem dX6_init_704 : decode cX6_init 704 = .ok (.bipush 111, 2) := dk_16 111 (dk_at dksX6_init_29 10 rfl rfl)
theorem dX6_init_706 : decode cX6_init 706 = .ok (.iastore, 1) := dk_79 (dk_at dksX6_init_29 12 rfl rfl)
theorem dX6_init_707 : decode cX6_init 707 = .ok (.dup, 1) := dk_89 (dk_at dksX6_init_29 13 rfl rfl)
theorem dX6_init_708 : decode cX6_init 708 = .ok (.bipush 93, 2) := dk_16 93 (dk_at dksX6_init_29 14 rfl rfl)
theorem dX6_init_710 : decode cX6_init 710 = .ok (.bipush 115, 2) := dk_16 115 (dk_at dksX6_init_29 16 rfl rfl)
theorem dX6_init_712 : decode cX6_init 712 = .ok (.iastore, 1) := dk_79 (dk_at dksX6_init_29 18 rfl rfl)
theorem dX6_init_713 : decode cX6_init 713 = .ok (.dup, 1) := dk_89 (dk_at dksX6_init_29 19 rfl rfl)
theorem dX6_init_714 : decode cX6_init 714 = .ok (.bipush 94, 2) := dk_16 94 (dk_at dksX6_init_29 20 rfl rfl)
theorem dX6_init_716 : decode cX6_init 716 = .ok (.bipush 116, 2) := dk_16 116 (dk_at dksX6_init_29 22 rfl rfl)
theorem dX6_init_718 : decode cX6_init 718 = .ok (.iastore, 1) := dk_79 (dk_at dksX6_init_30 0 rfl rfl)
theorem dX6_init_719 : decode cX6_init 719 = .ok (.dup, 1) := dk_89 (dk_at dksX6_init_30 1 rfl rfl)
theorem dX6_init_720 : decode cX6_init 720 = .ok (.bipush 95, 2) := dk_16 95 (dk_at dksX6_init_30 2 rfl rfl)
theorem dX6_init_722 : decode cX6_init 722 = .ok (.bipush 32, 2) := dk_16 32 (dk_at dksX6_init_30 4 rfl rfl)
theorem dX6_init_724 : decode cX6_init 724 = .ok (.iastore, 1) := dk_79 (dk_at dksX6_init_30 6 rfl rfl)
theorem dX6_init_725 : decode cX6_init 725 = .ok (.dup, 1) := dk_89 (dk_at dksX6_init_30 7 rfl rfl)
theorem dX6_init_726 : decode cX6_init 726 = .ok (.bipush 96, 2) := dk_16 96 (dk_at dksX6_init_30 8 rfl rfl)
theorem dX6_init_728 : decode cX6_init 728 = .ok (.bipush 111, 2) := dk_16 111 (dk_at dksX6_init_30 10 rfl rfl)
theorem dX6_init_730 : decode cX6_init 730 = .ok (.iastore, 1) := dk_79 (dk_at dksX6_init_30 12 rfl rfl)
theorem dX6_init_731 : decode cX6_init 731 = .ok (.dup, 1) := dk_89 (dk_at dksX6_init_30 13 rfl rfl)
theorem dX6_init_732 : decode cX6_init 732 = .ok (.bipush 97, 2) := dk_16 97 (dk_at dksX6_init_30 14 rfl rfl)
theorem dX6_init_734 : decode cX6_init 734 = .ok (.bipush 97, 2) := dk_16 97 (dk_at dksX6_init_30 16 rfl rfl)
theorem dX6_init_736 : decode cX6_init 736 = .ok (.iastore, 1) := dk_79 (dk_at dksX6_init_30 18 rfl rfl)
theorem dX6_init_737 : decode cX6_init 737 = .ok (.dup, 1) := dk_89 (dk_at dksX6_init_30 19 rfl rfl)
theorem dX6_init_738 : decode cX6_init 738 = .ok (.bipush 98, 2) := dk_16 98 (dk_at dksX6_init_30 20 rfl rfl)
theorem dX6_init_740 : decode cX6_init 740 = .ok (.bipush 103, 2) := dk_16 103 (dk_at dksX6_init_30 22 rfl rfl)
theorem dX6_init_742 : decode cX6_init 742 = .ok (.iastore, 1) := dk_79 (dk_at dksX6_init_31 0 rfl rfl)
theorem dX6_init_743 : decode cX6_init 743 = .ok (.dup, 1) := dk_89 (dk_at dksX6_init_31 1 rfl rfl)
theorem dX6_init_744 : decode cX6_init 744 = .ok (.bipush 99, 2) := dk_16 99 (dk_at dksX6_init_31 2 rfl rfl)
theorem dX6_init_746 : decode cX6_init 746 = .ok (.bipush 101, 2) := dk_16 101 (dk_at dksX6_init_31 4 rfl rfl)
theorem dX6_init_748 : decode cX6_init 748 = .ok (.iastore, 1) := dk_79 (dk_at dksX6_init_31 6 rfl rfl)
theorem dX6_init_749 : decode cX6_init 749 = .ok (.dup, 1) := dk_89 (dk_at dksX6_init_31 7 rfl rfl)
theorem dX6_init_750 : decode cX6_init 750 = .ok (.bipush 100, 2) := dk_16 100 (dk_at dksX6_init_31 8 rfl rfl)
theorem dX6_init_752 : decode cX6_init 752 = .ok (.bipush 32, 2) := dk_16 32 (dk_at dksX6_init_31 10 rfl rfl)
theorem dX6_init_754 : decode cX6_init 754 = .ok (.iastore, 1) := dk_79 (dk_at dksX6_init_31 12 rfl rfl)
theorem dX6_init_755 : decode cX6_init 755 = .ok (.dup, 1) := dk_89 (dk_at dksX6_init_31 13 rfl rfl)
theorem dX6_init_756 : decode cX6_init 756 = .ok (.bipush 101, 2) := dk_16 101 (dk_at dksX6_init_31 14 rfl rfl)
theorem dX6_init_758 : decode cX6_init 758 = .ok (.bipush 108, 2) := dk_16 108 (dk_at dksX6_init_31 16 rfl rfl)
theorem dX6_init_760 : decode cX6_init 760 = .ok (.iastore, 1) := dk_79 (dk_at dksX6_init_31 18 rfl rfl)
theorem dX6_init_761 : decode cX6_init 761 = .ok (.dup, 1) := dk_89 (dk_at dksX6_init_31 19 rfl rfl)
theorem dX6_init_762 : decode cX6_init 762 = .ok (.bipush 102, 2) := dk_16 102 (dk_at dksX6_init_31 20 rfl rfl)
theorem dX6_init_764 : decode cX6_init 764 = .ok (.bipush 97, 2) := dk_16 97 (dk_at dksX6_init_31 22 rfl rfl)
theorem dX6_init_766 : decode cX6_init 766 = .ok (.iastore, 1) := dk_79 (dk_at dksX6_init_32 0 rfl rfl)
theorem dX6_init_767 : decode cX6_init 767 = .ok (.dup, 1) := dk_89 (dk_at dksX6_init_32 1 rfl rfl)
theorem dX6_init_768 : decode cX6_init 768 = .ok (.bipush 103, 2) := dk_16 103 (dk_at dksX6_init_32 2 rfl rfl)
theorem dX6_init_770 : decode cX6_init 770 = .ok (.bipush 119, 2) := dk_16 119 (dk_at dksX6_init_32 4 rfl rfl)
theorem dX6_init_772 : decode cX6_init 772 = .ok (.iastore, 1) := dk_79 (dk_at dksX6_init_32 6 rfl rfl)
theorem dX6_init_773 : decode cX6_init 773 = .ok (.dup, 1) := dk_89 (dk_at dksX6_init_32 7 rfl rfl)
theorem dX6_init_774 : decode cX6_init 774 = .ok (.bipush 104, 2) := dk_16 104 (dk_at dksX6_init_32 8 rfl rfl)
theorem dX6_init_776 : decode cX6_init 776 = .ok (.bipush 102, 2) := dk_16 102 (dk_at dksX6_init_32 10 rfl rfl)
theorem dX6_init_778 : decode cX6_init 778 = .ok (.iastore, 1) := dk_79 (dk_at dksX6_init_32 12 rfl rfl)
theorem dX6_init_779 : decode cX6_init 779 = .ok (.dup, 1) := dk_89 (dk_at dksX6_init_32 13 rfl rfl)
theorem dX6_init_780 : decode cX6_init 780 = .ok (.bipush 105, 2) := dk_16 105 (dk_at dksX6_init_32 14 rfl rfl)
theorem dX6_init_782 : decode cX6_init 782 = .ok (.bipush 117, 2) := dk_16 117 (dk_at dksX6_init_32 16 rfl rfl)
theorem dX6_init_784 : decode cX6_init 784 = .ok (.iastore, 1) := dk_79 (dk_at dksX6_init_32 18 rfl rfl)
theorem dX6_init_785 : decode cX6_init 785 = .ok (.dup, 1) := dk_89 (dk_at dksX6_init_32 19 rfl rfl)
theorem dX6_init_786 : decode cX6_init 786 = .ok (.bipush 106, 2) := dk_16 106 (dk_at dksX6_init_32 20 rfl rfl)
theorem dX6_init_788 : decode cX6_init 788 = .ok (.bipush 108, 2) := dk_16 108 (dk_at dksX6_init_32 22 rfl rfl)
theorem dX6_init_790 : decode cX6_init 790 = .ok (.iastore, 1) := dk_79 (dk_at dksX6_init_33 0 rfl rfl)
theorem dX6_init_791 : decode cX6_init 791 = .ok (.dup, 1) := dk_89 (dk_at dksX6_init_33 1 rfl rfl)
theorem dX6_init_792 : decode cX6_init 792 = .ok (.bipush 107, 2) := dk_16 107 (dk_at dksX6_init_33 2 rfl rfl)
theorem dX6_init_794 : decode cX6_init 794 = .ok (.bipush 32, 2) := dk_16 32 (dk_at dksX6_init_33 4 rfl rfl)
theorem dX6_init_796 : decode cX6_init 796 = .ok (.iastore, 1) := dk_79 (dk_at dksX6_init_33 6 rfl rfl)
theorem dX6_init_797 : decode cX6_init 797 = .ok (.dup, 1) := dk_89 (dk_at dksX6_init_33 7 rfl rfl)
theorem dX6_init_798 : decode cX6_init 798 = .ok (.bipush 108, 2) := dk_16 108 (dk_at dksX6_init_33 8 rfl rfl)
theorem dX6_init_800 : decode cX6_init 800 = .ok (.bipush 111, 2) := dk_16 111 (dk_at dksX6_init_33 10 rfl rfl)
theorem dX6_init_802 : decode cX6_init 802 = .ok (.iastore, 1) := dk_79 (dk_at dksX6_init_33 12 rfl rfl)
theorem dX6_init_803 : decode cX6_init 803 = .ok (.dup, 1) := dk_89 (dk_at dksX6_init_33 13 rfl rfl)
theorem dX6_init_804 : decode cX6_init 804 = .ok (.bipush 109, 2) := dk_16 109 (dk_at dksX6_init_33 14 rfl rfl)
theorem dX6_init_806 : decode cX6_init 806 = .ok (.bipush 108, 2) := dk_16 108 (dk_at dksX6_init_33 16 rfl rfl)
theorem dX6_init_808 : decode cX6_init 808 = .ok (.iastore, 1) := dk_79 (dk_at dksX6_init_33 18 rfl rfl)
theorem dX6_init_809 : decode cX6_init 809 = .ok (.dup, 1) := dk_89 (dk_at dksX6_init_33 19 rfl rfl)
theorem dX6_init_810 : decode cX6_init 810 = .ok (.bipush 110, 2) := dk_16 110 (dk_at dksX6_init_33 20 rfl rfl)
theorem dX6_init_812 : decode cX6_init 812 = .ok (.bipush 97, 2) := dk_16 97 (dk_at dksX6_init_33 22 rfl rfl)
theorem dX6_init_814 : decode cX6_init 814 = .ok (.iastore, 1) := dk_79 (dk_at dksX6_init_34 0 rfl rfl)
theorem dX6_init_815 : decode cX6_init 815 = .ok (.dup, 1) := dk_89 (dk_at dksX6_init_34 1 rfl rfl)
theorem dX6_init_816 : decode cX6_init 816 = .ok (.bipush 111, 2) := dk_16 111 (dk_at dksX6_init_34 2 rfl rfl)
theorem dX6_init_818 : decode cX6_init 818 = .ok (.bipush 119, 2) := dk_16 119 (dk_at dksX6_init_34 4 rfl rfl)
theorem dX6_init_820 : decode cX6_init 820 = .ok (.iastore, 1) := dk_79 (dk_at dksX6_init_34 6 rfl rfl)
theorem dX6_init_821 : decode cX6_init 821 = .ok (.dup, 1) := dk_89 (dk_at dksX6_init_34 7 rfl rfl)
theorem dX6_init_822 : decode cX6_init 822 = .ok (.bipush 112, 2) := dk_16 112 (dk_at dksX6_init_34 8 rfl rfl)
theorem dX6_init_824 : decode cX6_init 824 = .ok (.bipush 102, 2) := dk_16 102 (dk_at dksX6_init_34 10 rfl rfl)
theorem dX6_init_826 : decode cX6_init 826 = .ok (.iastore, 1) := dk_79 (dk_at dksX6_init_34 12 rfl rfl)
theorem dX6_init_827 : decode cX6_init 827 = .ok (.dup, 1) := dk_89 (dk_at dksX6_init_34 13 rfl rfl)
theorem dX6_init_828 : decode cX6_init 828 = .ok (.bipush 113, 2) := dk_16 113 (dk_at dksX6_init_34 14 rfl rfl)
theorem dX6_init_830 : decode cX6_init 830 = .ok (.bipush 117, 2) := dk_16 117 (dk_at dksX6_init_34 16 rfl rfl)
theorem dX6_init_832 : decode cX6_init 832 = .ok (.iastore, 1) := dk_79 (dk_at dksX6_init_34 18 rfl rfl)
theorem dX6_init_833 : decode cX6_init 833 = .ok (.dup, 1) := dk_89 (dk_at dksX6_init_34 19 rfl rfl)
theorem dX6_init_834 : decode cX6_init 834 = .ok (.bipush 114, 2) := dk_16 114 (dk_at dksX6_init_34 20 rfl rfl)
theorem dX6_init_836 : decode cX6_init 836 = .ok (.bipush 108, 2) := dk_16 108 (dk_at dksX6_init_34 22 rfl rfl)
theorem dX6_init_838 : decode cX6_init 838 = .ok (.iastore, 1) := dk_79 (dk_at dksX6_init_35 0 rfl rfl)
theorem dX6_init_839 : decode cX6_init 839 = .ok (.dup, 1) := dk_89 (dk_at dksX6_init_35 1 rfl rfl)
theorem dX6_init_840 : decode cX6_init 840 = .ok (.bipush 115, 2) := dk_16 115 (dk_at dksX6_init_35 2 rfl rfl)
theorem dX6_init_842 : decode cX6_init 842 = .ok (.bipush 32, 2) := dk_16 32 (dk_at dksX6_init_35 4 rfl rfl)
theorem dX6_init_844 : decode cX6_init 844 = .ok (.iastore, 1) := dk_79 (dk_at dksX6_init_35 6 rfl rfl)
theorem dX6_init_845 : decode cX6_init 845 = .ok (.dup, 1) := dk_89 (dk_at dksX6_init_35 7 rfl rfl)
theorem dX6_init_846 : decode cX6_init 846 = .ok (.bipush 116, 2) := dk_16 116 (dk_at dksX6_init_35 8 rfl rfl)
theorem dX6_init_848 : decode cX6_init 848 = .ok (.bipush 112, 2) := dk_16 112 (dk_at dksX6_init_35 10 rfl rfl)
theorem dX6_init_850 : decode cX6_init 850 = .ok (.iastore, 1) := dk_79 (dk_at dksX6_init_35 12 rfl rfl)
theorem dX6_init_851 : decode cX6_init 851 = .ok (.dup, 1) := dk_89 (dk_at dksX6_init_35 13 rfl rfl)
theorem dX6_init_852 : decode cX6_init 852 = .ok (.bipush 117, 2) := dk_16 117 (dk_at dksX6_init_35 14 rfl rfl)
theorem dX6_init_854 : decode cX6_init 854 = .ok (.bipush 117, 2) := dk_16 117 (dk_at dksX6_init_35 16 rfl rfl)
theorem dX6_init_856 : decode cX6_init 856 = .ok (.iastore, 1) := dk_79 (dk_at dksX6_init_35 18 rfl rfl)
theorem dX6_init_857 : decode cX6_init 857 = .ok (.dup, 1) := dk_89 (dk_at dksX6_init_35 19 rfl rfl)
theorem dX6_init_858 : decode cX6_init 858 = .ok (.bipush 118, 2) := dk_16 118 (dk_at dksX6_init_35 20 rfl rfl)
theorem dX6_init_860 : decode cX6_init 860 = .ok (.bipush 114, 2) := dk_16 114 (dk_at dksX6_init_35 22 rfl rfl)
theorem dX6_init_862 : decode cX6_init 862 = .ok (.iastore, 1) := dk_79 (dk_at dksX6_init_36 0 rfl rfl)
theorem dX6_init_863 : decode cX6_init 863 = .ok (.dup, 1) := dk_89 (dk_at dksX6_init_36 1 rfl rfl)
theorem dX6_init_864 : decode cX6_init 864 = .ok (.bipush 119, 2) := dk_16 119 (dk_at dksX6_init_36 2 rfl rfl)
theorem dX6_init_866 : decode cX6_init 866 = .ok (.bipush 115, 2) := dk_16 115 (dk_at dksX6_init_36 4 rfl rfl)
theorem dX6_init_868 : decode cX6_init 868 = .ok (.iastore, 1) := dk_79 (dk_at dksX6_init_36 6 rfl rfl)
theorem dX6_init_869 : decode cX6_init 869 = .ok (.dup, 1) := dk_89 (dk_at dksX6_init_36 7 rfl rfl)
theorem dX6_init_870 : decode cX6_init 870 = .ok (.bipush 120, 2) := dk_16 120 (dk_at dksX6_init_36 8 rfl rfl)
theorem dX6_init_872 : decode cX6_init 872 = .ok (.bipush 101, 2) := dk_16 101 (dk_at dksX6_init_36 10 rfl rfl)
theorem dX6_init_874 : decode cX6_init 874 = .ok (.iastore, 1) := dk_79 (dk_at dksX6_init_36 12 rfl rfl)
theorem dX6_init_875 : decode cX6_init 875 = .ok (.dup, 1) := dk_89 (dk_at dksX6_init_36 13 rfl rfl)
theorem dX6_init_876 : decode cX6_init 876 = .ok (.bipush 121, 2) := dk_16 121 (dk_at dksX6_init_36 14 rfl rfl)
theorem dX6_init_878 : decode cX6_init 878 = .ok (.bipush 32, 2) := dk_16 32 (dk_at dksX6_init_36 16 rfl rfl)
theorem dX6_init_880 : decode cX6_init 880 = .ok (.iastore, 1) := dk_79 (dk_at dksX6_init_36 18 rfl rfl)
theorem dX6_init_881 : decode cX6_init 881 = .ok (.putfield 22, 3) := dk_181 0 22 (dk_at dksX6_init_36 19 rfl rfl)
theorem dX6_init_884 : decode cX6_init 884 = .ok (.aload_n 0, 1) := dk_42 (dk_at dksX6_init_36 22 rfl rfl)
theorem dX6_init_885 : decode cX6_init 885 = .ok (.bipush 7, 2) := dk_16 7 (dk_at dksX6_init_37 0 rfl rfl)
theorem dX6_init_887 : decode cX6_init 887 = .ok (.newarray .int, 2) := dk_188_10 (dk_at dksX6_init_37 2 rfl rfl)
theorem dX6_init_889 : decode cX6_init 889 = .ok (.putfield 25, 3) := dk_181 0 25 (dk_at dksX6_init_37 4 rfl rfl)
theorem dX6_init_892 : decode cX6_init 892 = .ok (.aload_n 0, 1) := dk_42 (dk_at dksX6_init_37 7 rfl rfl)
theorem dX6_init_893 : decode cX6_init 893 = .ok (.bipush 112, 2) := dk_16 112 (dk_at dksX6_init_37 8 rfl rfl)
theorem dX6_init_895 : decode cX6_init 895 = .ok (.newarray .int, 2) := dk_188_10 (dk_at dksX6_init_37 10 rfl rfl)
theorem dX6_init_897 : decode cX6_init 897 = .ok (.putfield 28, 3) := dk_181 0 28 (dk_at dksX6_init_37 12 rfl rfl)
theorem dX6_init_900 : decode cX6_init 900 = .ok (.aload_n 0, 1) := dk_42 (dk_at dksX6_init_37 15 rfl rfl)
theorem dX6_init_901 : decode cX6_init 901 = .ok (.bipush 112, 2) := dk_16 112 (dk_at dksX6_init_37 16 rfl rfl)
theorem dX6_init_903 : decode cX6_init 903 = .ok (.newarray .int, 2) := dk_188_10 (dk_at dksX6_init_37 18 rfl rfl)
theorem dX6_init_905 : decode cX6_init 905 = .ok (.putfield 31, 3) := dk_181 0 31 (dk_at dksX6_init_37 20 rfl rfl)
theorem dX6_init_908 : decode cX6_init 908 = .ok (.aload_n 0, 1) := dk_42 (dk_at dksX6_init_37 23 rfl rfl)
theorem dX6_init_909 : decode cX6_init 909 = .ok (.bipush 112, 2) := dk_16 112 (dk_at dksX6_init_38 0 rfl rfl)
theorem dX6_init_911 : decode cX6_init 911 = .ok (.newarray .int, 2) := dk_188_10 (dk_at dksX6_init_38 2 rfl rfl)
theorem dX6_init_913 : decode cX6_init 913 = .ok (.putfield 34, 3) := dk_181 0 34 (dk_at dksX6_init_38 4 rfl rfl)
theorem dX6_init_916 : decode cX6_init 916 = .ok (.aload_n 0, 1) := dk_42 (dk_at dksX6_init_38 7 rfl rfl)
theorem dX6_init_917 : decode cX6_init 917 = .ok (.sipush 2800, 3) := dk_17 10 240 (dk_at dksX6_init_38 8 rfl rfl)
theorem dX6_init_920 : decode cX6_init 920 = .ok (.newarray .int, 2) := dk_188_10 (dk_at dksX6_init_38 11 rfl rfl)
theorem dX6_init_922 : decode cX6_init 922 = .ok (.putfield 37, 3) := dk_181 0 37 (dk_at dksX6_init_38 13 rfl rfl)
theorem dX6_init_925 : decode cX6_init 925 = .ok (.aload_n 0, 1) := dk_42 (dk_at dksX6_init_38 16 rfl rfl)
theorem dX6_init_926 : decode cX6_init 926 = .ok (.sipush 2800, 3) := dk_17 10 240 (dk_at dksX6_init_38 17 rfl rfl)
theorem dX6_init_929 : decode cX6_init 929 = .ok (.newarray .int, 2) := dk_188_10 (dk_at dksX6_init_38 20 rfl rfl)
theorem dX6_init_931 : decode cX6_init 931 = .ok (.putfield 40, 3) := dk_181 0 40 (dk_at dksX6_init_39 0 rfl rfl)
theorem dX6_init_934 : decode cX6_init 934 = .ok (.aload_n 0, 1) := dk_42 (dk_at dksX6_init_39 3 rfl rfl)
theorem dX6_init_935 : decode cX6_init 935 = .ok (.bipush 40, 2) := dk_16 40 (dk_at dksX6_init_39 4 rfl rfl)
theorem dX6_init_937 : decode cX6_init 937 = .ok (.newarray .int, 2) := dk_188_10 (dk_at dksX6_init_39 6 rfl rfl)
theorem dX6_init_939 : decode cX6_init 939 = .ok (.putfield 43, 3) := dk_181 0 43 (dk_at dksX6_init_39 8 rfl rfl)
theorem dX6_init_942 : decode cX6_init 942 = .ok (.aload_n 0, 1) := dk_42 (dk_at dksX6_init_39 11 rfl rfl)
theorem dX6_init_943 : decode cX6_init 943 = .ok (.iconst (-1), 1) := dk_2 (dk_at dksX6_init_39 12 rfl rfl)
theorem dX6_init_944 : decode cX6_init 944 = .ok (.putfield 46, 3) := dk_181 0 46 (dk_at dksX6_init_39 13 rfl rfl)
theorem dX6_init_947 : decode cX6_init 947 = .ok (.aload_n 0, 1) := dk_42 (dk_at dksX6_init_39 16 rfl rfl)
theorem dX6_init_948 : decode cX6_init 948 = .ok (.bipush 15, 2) := dk_16 15 (dk_at dksX6_init_39 17 rfl rfl)
theorem dX6_init_950 : decode cX6_init 950 = .ok (.newarray .int, 2) := dk_188_10 (dk_at dksX6_init_39 19 rfl rfl)
theorem dX6_init_952 : decode cX6_init 952 = .ok (.putfield 50, 3) := dk_181 0 50 (dk_at dksX6_init_39 21 rfl rfl)
theorem dX6_init_955 : decode cX6_init 955 = .ok (.aload_n 0, 1) := dk_42 (dk_at dksX6_init_40 0 rfl rfl)
theorem dX6_init_956 : decode cX6_init 956 = .ok (.sipush 420, 3) := dk_17 1 164 (dk_at dksX6_init_40 1 rfl rfl)
theorem dX6_init_959 : decode cX6_init 959 = .ok (.newarray .int, 2) := dk_188_10 (dk_at dksX6_init_40 4 rfl rfl)
theorem dX6_init_961 : decode cX6_init 961 = .ok (.putfield 53, 3) := dk_181 0 53 (dk_at dksX6_init_40 6 rfl rfl)
theorem dX6_init_964 : decode cX6_init 964 = .ok (.aload_n 0, 1) := dk_42 (dk_at dksX6_init_40 9 rfl rfl)
theorem dX6_init_965 : decode cX6_init 965 = .ok (.bipush 25, 2) := dk_16 25 (dk_at dksX6_init_40 10 rfl rfl)
theorem dX6_init_967 : decode cX6_init 967 = .ok (.newarray .long, 2) := dk_188_11 (dk_at dksX6_init_40 12 rfl rfl)
theorem dX6_init_969 : decode cX6_init 969 = .ok (.putfield 56, 3) := dk_181 0 56 (dk_at dksX6_init_40 14 rfl rfl)
theorem dX6_init_972 : decode cX6_init 972 = .ok (.aload_n 0, 1) := dk_42 (dk_at dksX6_init_40 17 rfl rfl)
theorem dX6_init_973 : decode cX6_init 973 = .ok (.bipush 25, 2) := dk_16 25 (dk_at dksX6_init_40 18 rfl rfl)
theorem dX6_init_975 : decode cX6_init 975 = .ok (.newarray .long, 2) := dk_188_11 (dk_at dksX6_init_40 20 rfl rfl)
theorem dX6_init_977 : decode cX6_init 977 = .ok (.putfield 60, 3) := dk_181 0 60 (dk_at dksX6_init_41 0 rfl rfl)
theorem dX6_init_980 : decode cX6_init 980 = .ok (.aload_n 0, 1) := dk_42 (dk_at dksX6_init_41 3 rfl rfl)
theorem dX6_init_981 : decode cX6_init 981 = .ok (.bipush 25, 2) := dk_16 25 (dk_at dksX6_init_41 4 rfl rfl)
theorem dX6_init_983 : decode cX6_init 983 = .ok (.newarray .long, 2) := dk_188_11 (dk_at dksX6_init_41 6 rfl rfl)
theorem dX6_init_985 : decode cX6_init 985 = .ok (.putfield 63, 3) := dk_181 0 63 (dk_at dksX6_init_41 8 rfl rfl)
theorem dX6_init_988 : decode cX6_init 988 = .ok (.aload_n 0, 1) := dk_42 (dk_at dksX6_init_41 11 rfl rfl)
theorem dX6_init_989 : decode cX6_init 989 = .ok (.bipush 25, 2) := dk_16 25 (dk_at dksX6_init_41 12 rfl rfl)
theorem dX6_init_991 : decode cX6_init 991 = .ok (.newarray .long, 2) := dk_188_11 (dk_at dksX6_init_41 14 rfl rfl)
theorem dX6_init_993 : decode cX6_init 993 = .ok (.putfield 66, 3) := dk_181 0 66 (dk_at dksX6_init_41 16 rfl rfl)
theorem dX6_init_996 : decode cX6_init 996 = .ok (.aload_n 0, 1) := dk_42 (dk_at dksX6_init_41 19 rfl rfl)
theorem dX6_init_997 : decode cX6_init 997 = .ok (.bipush 81, 2) := dk_16 81 (dk_at dksX6_init_41 20 rfl rfl)
theorem dX6_init_999 : decode cX6_init 999 = .ok (.newarray .long, 2) := dk_188_11 (dk_at dksX6_init_41 22 rfl rfl)
theorem dX6_init_1001 : decode cX6_init 1001 = .ok (.putfield 69, 3) := dk_181 0 69 (dk_at dksX6_init_42 0 rfl rfl)
theorem dX6_init_1004 : decode cX6_init 1004 = .ok (.aload_n 0, 1) := dk_42 (dk_at dksX6_init_42 3 rfl rfl)
theorem dX6_init_1005 : decode cX6_init 1005 = .ok (.bipush 81, 2) := dk_16 81 (dk_at dksX6_init_42 4 rfl rfl)
theorem dX6_init_1007 : decode cX6_init 1007 = .ok (.newarray .long, 2) := dk_188_11 (dk_at dksX6_init_42 6 rfl rfl)
theorem dX6_init_1009 : decode cX6_init 1009 = .ok (.putfield 72, 3) := dk_181 0 72 (dk_at dksX6_init_42 8 rfl rfl)
theorem dX6_init_1012 : decode cX6_init 1012 = .ok (.aload_n 0, 1) := dk_42 (dk_at dksX6_init_42 11 rfl rfl)
theorem dX6_init_1013 : decode cX6_init 1013 = .ok (.sipush 196, 3) := dk_17 0 196 (dk_at dksX6_init_42 12 rfl rfl)
theorem dX6_init_1016 : decode cX6_init 1016 = .ok (.newarray .long, 2) := dk_188_11 (dk_at dksX6_init_42 15 rfl rfl)
theorem dX6_init_1018 : decode cX6_init 1018 = .ok (.putfield 75, 3) := dk_181 0 75 (dk_at dksX6_init_42 17 rfl rfl)
theorem dX6_init_1021 : decode cX6_init 1021 = .ok (.aload_n 0, 1) := dk_42 (dk_at dksX6_init_42 20 rfl rfl)
theorem dX6_init_1022 : decode cX6_init 1022 = .ok (.sipush 196, 3) := dk_17 0 196 (dk_at dksX6_init_42 21 rfl rfl)
theorem dX6_init_1025 : decode cX6_init 1025 = .ok (.newarray .long, 2) := dk_188_11 (dk_at dksX6_init_43 0 rfl rfl)
theorem dX6_init_1027 : decode cX6_init 1027 = .ok (.putfield 78, 3) := dk_181 0 78 (dk_at dksX6_init_43 2 rfl rfl)
theorem dX6_init_1030 : decode cX6_init 1030 = .ok (.aload_n 0, 1) := dk_42 (dk_at dksX6_init_43 5 rfl rfl)
theorem dX6_init_1031 : decode cX6_init 1031 = .ok (.sipush 2600, 3) := dk_17 10 40 (dk_at dksX6_init_43 6 rfl rfl)
theorem dX6_init_1034 : decode cX6_init 1034 = .ok (.newarray .int, 2) := dk_188_10 (dk_at dksX6_init_43 9 rfl rfl)
theorem dX6_init_1036 : decode cX6_init 1036 = .ok (.putfield 81, 3) := dk_181 0 81 (dk_at dksX6_init_43 11 rfl rfl)
theorem dX6_init_1039 : decode cX6_init 1039 = .ok (.aload_n 0, 1) := dk_42 (dk_at dksX6_init_43 14 rfl rfl)
theorem dX6_init_1040 : decode cX6_init 1040 = .ok (.sipush 2600, 3) := dk_17 10 40 (dk_at dksX6_init_43 15 rfl rfl)
theorem dX6_init_1043 : decode cX6_init 1043 = .ok (.newarray .int, 2) := dk_188_10 (dk_at dksX6_init_43 18 rfl rfl)
theorem dX6_init_1045 : decode cX6_init 1045 = .ok (.putfield 84, 3) := dk_181 0 84 (dk_at dksX6_init_43 20 rfl rfl)
theorem dX6_init_1048 : decode cX6_init 1048 = .ok (.aload_n 0, 1) := dk_42 (dk_at dksX6_init_43 23 rfl rfl)
theorem dX6_init_1049 : decode cX6_init 1049 = .ok (.sipush 5200, 3) := dk_17 20 80 (dk_at dksX6_init_44 0 rfl rfl)
theorem dX6_init_1052 : decode cX6_init 1052 = .ok (.newarray .int, 2) := dk_188_10 (dk_at dksX6_init_44 3 rfl rfl)
theorem dX6_init_1054 : decode cX6_init 1054 = .ok (.putfield 87, 3) := dk_181 0 87 (dk_at dksX6_init_44 5 rfl rfl)
theorem dX6_init_1057 : decode cX6_init 1057 = .ok (.return_, 1) := dk_177 (dk_at dksX6_init_44 8 rfl rfl)
abbrev cX6_state : ByteArray := prog_17_method_4_code
def yX6_state : MethodName := ⟨RX6, "state", "(I)I"⟩
def dkwX6_state_0 : List UInt8 := [42, 3, 181, 0, 90, 42, 180, 0, 93, 61, 42, 27, 181, 0, 93, 28, 172]
abbrev dktX6_state_0 : List UInt8 := dkwX6_state_0 ++ []
theorem dksX6_state_0 : cX6_state.data.toList.drop 0 = dktX6_state_0 := by decide +kernel
theorem dX6_state_0 : decode cX6_state 0 = .ok (.aload_n 0, 1) := dk_42 (dk_at dksX6_state_0 0 rfl rfl)
theorem dX6_state_1 : decode cX6_state 1 = .ok (.iconst 0, 1) := dk_3 (dk_at dksX6_state_0 1 rfl rfl)
theorem dX6_state_2 : decode cX6_state 2 = .ok (.putfield 90, 3) := dk_181 0 90 (dk_at dksX6_state_0 2 rfl rfl)
theorem dX6_state_5 : decode cX6_state 5 = .ok (.aload_n 0, 1) := dk_42 (dk_at dksX6_state_0 5 rfl rfl)
theorem dX6_state_6 : decode cX6_state 6 = .ok (.getfield 93, 3) := dk_180 0 93 (dk_at dksX6_state_0 6 rfl rfl)
theorem dX6_state_9 : decode cX6_state 9 = .ok (.istore_n 2, 1) := dk_61 (dk_at dksX6_state_0 9 rfl rfl)
theorem dX6_state_10 : decode cX6_state 10 = .ok (.aload_n 0, 1) := dk_42 (dk_at dksX6_state_0 10 rfl rfl)
theorem dX6_state_11 : decode cX6_state 11 = .ok (.iload_n 1, 1) := dk_27 (dk_at dksX6_state_0 11 rfl rfl)
theorem dX6_state_12 : decode cX6_state 12 = .ok (.putfield 93, 3) := dk_181 0 93 (dk_at dksX6_state_0 12 rfl rfl)
theorem dX6_state_15 : decode cX6_state 15 = .ok (.iload_n 2, 1) := dk_28 (dk_at dksX6_state_0 15 rfl rfl)
theorem dX6_state_16 : decode cX6_state 16 = .ok (.ireturn, 1) := dk_172 (dk_at dksX6_state_0 16 rfl rfl)
abbrev cX6_one : ByteArray := prog_17_method_12_code
def yX6_one : MethodName := ⟨RX6, "one", "(II)I"⟩
def dkwX6_one_4 : List UInt8 := [4, 100, 172]
abbrev dktX6_one_4 : List UInt8 := dkwX6_one_4 ++ []
def dkwX6_one_3 : List UInt8 := [42, 42, 180, 0, 98, 4, 27, 182, 0, 105, 42, 42, 180, 0, 98, 4, 96, 181, 0, 98, 42, 180, 0, 98]
abbrev dktX6_one_3 : List UInt8 := dkwX6_one_3 ++ dktX6_one_4
def dkwX6_one_2 : List UInt8 := [180, 0, 98, 29, 3, 182, 0, 105, 132, 3, 1, 167, 255, 237, 42, 42, 180, 0, 98, 3, 28, 182, 0, 105]
abbrev dktX6_one_2 : List UInt8 := dkwX6_one_2 ++ dktX6_one_3
def dkwX6_one_1 : List UInt8 := [153, 0, 12, 42, 180, 0, 98, 16, 12, 160, 0, 5, 2, 172, 3, 62, 29, 16, 9, 162, 0, 19, 42, 42]
abbrev dktX6_one_1 : List UInt8 := dkwX6_one_1 ++ dktX6_one_2
def dkwX6_one_0 : List UInt8 := [42, 3, 181, 0, 90, 42, 27, 3, 16, 99, 182, 0, 109, 153, 0, 22, 42, 28, 3, 7, 182, 0, 109]
abbrev dktX6_one_0 : List UInt8 := dkwX6_one_0 ++ dktX6_one_1
theorem dksX6_one_0 : cX6_one.data.toList.drop 0 = dktX6_one_0 := by decide +kernel
theorem dksX6_one_1 : cX6_one.data.toList.drop 23 = dktX6_one_1 := dk_seg dksX6_one_0 23 rfl rfl
theorem dksX6_one_2 : cX6_one.data.toList.drop 47 = dktX6_one_2 := dk_seg dksX6_one_1 24 rfl rfl
theorem dksX6_one_3 : cX6_one.data.toList.drop 71 = dktX6_one_3 := dk_seg dksX6_one_2 24 rfl rfl
theorem dksX6_one_4 : cX6_one.data.toList.drop 95 = dktX6_one_4 := dk_seg dksX6_one_3 24 rfl rfl
theorem dX6_one_0 : decode cX6_one 0 = .ok (.aload_n 0, 1) := dk_42 (dk_at dksX6_one_0 0 rfl rfl)
theorem dX6_one_1 : decode cX6_one 1 = .ok (.iconst 0, 1) := dk_3 (dk_at dksX6_one_0 1 rfl rfl)
theorem dX6_one_2 : decode cX6_one 2 = .ok (.putfield 90, 3) := dk_181 0 90 (dk_at dksX6_one_0 2 rfl rfl)
theorem dX6_one_5 : decode cX6_one 5 = .ok (.aload_n 0, 1) := dk_42 (dk_at dksX6_one_0 5 rfl rfl)
theorem dX6_one_6 : decode cX6_one 6 = .ok (.iload_n 1, 1) := dk_27 (dk_at dksX6_one_0 6 rfl rfl)
theorem dX6_one_7 : decode cX6_one 7 = .ok (.iconst 0, 1) := dk_3 (dk_at dksX6_one_0 7 rfl rfl)
theorem dX6_one_8 : decode cX6_one 8 = .ok (.bipush 99, 2) := dk_16 99 (dk_at dksX6_one_0 8 rfl rfl)
theorem dX6_one_10 : decode cX6_one 10 = .ok (.invokevirtual 109, 3) := dk_182 0 109 (dk_at dksX6_one_0 10 rfl rfl)
theorem dX6_one_13 : decode cX6_one 13 = .ok (.ifCond .eq 22, 3) := dk_153 0 22 (dk_at dksX6_one_0 13 rfl rfl)
theorem dX6_one_16 : decode cX6_one 16 = .ok (.aload_n 0, 1) := dk_42 (dk_at dksX6_one_0 16 rfl rfl)
theorem dX6_one_17 : decode cX6_one 17 = .ok (.iload_n 2, 1) := dk_28 (dk_at dksX6_one_0 17 rfl rfl)
theorem dX6_one_18 : decode cX6_one 18 = .ok (.iconst 0, 1) := dk_3 (dk_at dksX6_one_0 18 rfl rfl)
theorem dX6_one_19 : decode cX6_one 19 = .ok (.iconst 4, 1) := dk_7 (dk_at dksX6_one_0 19 rfl rfl)
theorem dX6_one_20 : decode cX6_one 20 = .ok (.invokevirtual 109, 3) := dk_182 0 109 (dk_at dksX6_one_0 20 rfl rfl)
theorem dX6_one_23 : decode cX6_one 23 = .ok (.ifCond .eq 12, 3) := dk_153 0 12 (dk_at dksX6_one_1 0 rfl rfl)
theorem dX6_one_26 : decode cX6_one 26 = .ok (.aload_n 0, 1) := dk_42 (dk_at dksX6_one_1 3 rfl rfl)
theorem dX6_one_27 : decode cX6_one 27 = .ok (.getfield 98, 3) := dk_180 0 98 (dk_at dksX6_one_1 4 rfl rfl)
theorem dX6_one_30 : decode cX6_one 30 = .ok (.bipush 12, 2) := dk_16 12 (dk_at dksX6_one_1 7 rfl rfl)
theorem dX6_one_32 : decode cX6_one 32 = .ok (.if_icmp .ne 5, 3) := dk_160 0 5 (dk_at dksX6_one_1 9 rfl rfl)
theorem dX6_one_35 : decode cX6_one 35 = .ok (.iconst (-1), 1) := dk_2 (dk_at dksX6_one_1 12 rfl rfl)
theorem dX6_one_36 : decode cX6_one 36 = .ok (.ireturn, 1) := dk_172 (dk_at dksX6_one_1 13 rfl rfl)
theorem dX6_one_37 : decode cX6_one 37 = .ok (.iconst 0, 1) := dk_3 (dk_at dksX6_one_1 14 rfl rfl)
theorem dX6_one_38 : decode cX6_one 38 = .ok (.istore_n 3, 1) := dk_62 (dk_at dksX6_one_1 15 rfl rfl)
theorem dX6_one_39 : decode cX6_one 39 = .ok (.iload_n 3, 1) := dk_29 (dk_at dksX6_one_1 16 rfl rfl)
theorem dX6_one_40 : decode cX6_one 40 = .ok (.bipush 9, 2) := dk_16 9 (dk_at dksX6_one_1 17 rfl rfl)
theorem dX6_one_42 : decode cX6_one 42 = .ok (.if_icmp .ge 19, 3) := dk_162 0 19 (dk_at dksX6_one_1 19 rfl rfl)
theorem dX6_one_45 : decode cX6_one 45 = .ok (.aload_n 0, 1) := dk_42 (dk_at dksX6_one_1 22 rfl rfl)
theorem dX6_one_46 : decode cX6_one 46 = .ok (.aload_n 0, 1) := dk_42 (dk_at dksX6_one_1 23 rfl rfl)
theorem dX6_one_47 : decode cX6_one 47 = .ok (.getfield 98, 3) := dk_180 0 98 (dk_at dksX6_one_2 0 rfl rfl)
theorem dX6_one_50 : decode cX6_one 50 = .ok (.iload_n 3, 1) := dk_29 (dk_at dksX6_one_2 3 rfl rfl)
theorem dX6_one_51 : decode cX6_one 51 = .ok (.iconst 0, 1) := dk_3 (dk_at dksX6_one_2 4 rfl rfl)
theorem dX6_one_52 : decode cX6_one 52 = .ok (.invokevirtual 105, 3) := dk_182 0 105 (dk_at dksX6_one_2 5 rfl rfl)
theorem dX6_one_55 : decode cX6_one 55 = .ok (.iinc 3 1, 3) := dk_132 3 1 (dk_at dksX6_one_2 8 rfl rfl)
theorem dX6_one_58 : decode cX6_one 58 = .ok (.goto (-19), 3) := dk_167 255 237 (dk_at dksX6_one_2 11 rfl rfl)
theorem dX6_one_61 : decode cX6_one 61 = .ok (.aload_n 0, 1) := dk_42 (dk_at dksX6_one_2 14 rfl rfl)
theorem dX6_one_62 : decode cX6_one 62 = .ok (.aload_n 0, 1) := dk_42 (dk_at dksX6_one_2 15 rfl rfl)
theorem dX6_one_63 : decode cX6_one 63 = .ok (.getfield 98, 3) := dk_180 0 98 (dk_at dksX6_one_2 16 rfl rfl)
theorem dX6_one_66 : decode cX6_one 66 = .ok (.iconst 0, 1) := dk_3 (dk_at dksX6_one_2 19 rfl rfl)
theorem dX6_one_67 : decode cX6_one 67 = .ok (.iload_n 2, 1) := dk_28 (dk_at dksX6_one_2 20 rfl rfl)
theorem dX6_one_68 : decode cX6_one 68 = .ok (.invokevirtual 105, 3) := dk_182 0 105 (dk_at dksX6_one_2 21 rfl rfl)
theorem dX6_one_71 : decode cX6_one 71 = .ok (.aload_n 0, 1) := dk_42 (dk_at dksX6_one_3 0 rfl rfl)
theorem dX6_one_72 : decode cX6_one 72 = .ok (.aload_n 0, 1) := dk_42 (dk_at dksX6_one_3 1 rfl rfl)
theorem dX6_one_73 : decode cX6_one 73 = .ok (.getfield 98, 3) := dk_180 0 98 (dk_at dksX6_one_3 2 rfl rfl)
theorem dX6_one_76 : decode cX6_one 76 = .ok (.iconst 1, 1) := dk_4 (dk_at dksX6_one_3 5 rfl rfl)
theorem dX6_one_77 : decode cX6_one 77 = .ok (.iload_n 1, 1) := dk_27 (dk_at dksX6_one_3 6 rfl rfl)
theorem dX6_one_78 : decode cX6_one 78 = .ok (.invokevirtual 105, 3) := dk_182 0 105 (dk_at dksX6_one_3 7 rfl rfl)
theorem dX6_one_81 : decode cX6_one 81 = .ok (.aload_n 0, 1) := dk_42 (dk_at dksX6_one_3 10 rfl rfl)
theorem dX6_one_82 : decode cX6_one 82 = .ok (.aload_n 0, 1) := dk_42 (dk_at dksX6_one_3 11 rfl rfl)
theorem dX6_one_83 : decode cX6_one 83 = .ok (.getfield 98, 3) := dk_180 0 98 (dk_at dksX6_one_3 12 rfl rfl)
theorem dX6_one_86 : decode cX6_one 86 = .ok (.iconst 1, 1) := dk_4 (dk_at dksX6_one_3 15 rfl rfl)
theorem dX6_one_87 : decode cX6_one 87 = .ok (.iadd, 1) := dk_96 (dk_at dksX6_one_3 16 rfl rfl)
theorem dX6_one_88 : decode cX6_one 88 = .ok (.putfield 98, 3) := dk_181 0 98 (dk_at dksX6_one_3 17 rfl rfl)
theorem dX6_one_91 : decode cX6_one 91 = .ok (.aload_n 0, 1) := dk_42 (dk_at dksX6_one_3 20 rfl rfl)
theorem dX6_one_92 : decode cX6_one 92 = .ok (.getfield 98, 3) := dk_180 0 98 (dk_at dksX6_one_3 21 rfl rfl)
theorem dX6_one_95 : decode cX6_one 95 = .ok (.iconst 1, 1) := dk_4 (dk_at dksX6_one_4 0 rfl rfl)
theorem dX6_one_96 : decode cX6_one 96 = .ok (.isub, 1) := dk_100 (dk_at dksX6_one_4 1 rfl rfl)
theorem dX6_one_97 : decode cX6_one 97 = .ok (.ireturn, 1) := dk_172 (dk_at dksX6_one_4 2 rfl rfl)
abbrev cX6_isIn : ByteArray := prog_17_method_3_code
def yX6_isIn : MethodName := ⟨RX6, "isIn", "(III)Z"⟩
def dkwX6_isIn_0 : List UInt8 := [27, 28, 161, 0, 12, 27, 29, 163, 0, 7, 4, 167, 0, 4, 3, 172]
abbrev dktX6_isIn_0 : List UInt8 := dkwX6_isIn_0 ++ []
theorem dksX6_isIn_0 : cX6_isIn.data.toList.drop 0 = dktX6_isIn_0 := by decide +kernel
theorem dX6_isIn_0 : decode cX6_isIn 0 = .ok (.iload_n 1, 1) := dk_27 (dk_at dksX6_isIn_0 0 rfl rfl)
theorem dX6_isIn_1 : decode cX6_isIn 1 = .ok (.iload_n 2, 1) := dk_28 (dk_at dksX6_isIn_0 1 rfl rfl)
theorem dX6_isIn_2 : decode cX6_isIn 2 = .ok (.if_icmp .lt 12, 3) := dk_161 0 12 (dk_at dksX6_isIn_0 2 rfl rfl)
theorem dX6_isIn_5 : decode cX6_isIn 5 = .ok (.iload_n 1, 1) := dk_27 (dk_at dksX6_isIn_0 5 rfl rfl)
theorem dX6_isIn_6 : decode cX6_isIn 6 = .ok (.iload_n 3, 1) := dk_29 (dk_at dksX6_isIn_0 6 rfl rfl)
theorem dX6_isIn_7 : decode cX6_isIn 7 = .ok (.if_icmp .gt 7, 3) := dk_163 0 7 (dk_at dksX6_isIn_0 7 rfl rfl)
theorem dX6_isIn_10 : decode cX6_isIn 10 = .ok (.iconst 1, 1) := dk_4 (dk_at dksX6_isIn_0 10 rfl rfl)
theorem dX6_isIn_11 : decode cX6_isIn 11 = .ok (.goto 4, 3) := dk_167 0 4 (dk_at dksX6_isIn_0 11 rfl rfl)
theorem dX6_isIn_14 : decode cX6_isIn 14 = .ok (.iconst 0, 1) := dk_3 (dk_at dksX6_isIn_0 14 rfl rfl)
theorem dX6_isIn_15 : decode cX6_isIn 15 = .ok (.ireturn, 1) := dk_172 (dk_at dksX6_isIn_0 15 rfl rfl)
abbrev cX6_puts : ByteArray := prog_17_method_9_code
def yX6_puts : MethodName := ⟨RX6, "puts", "(III)V"⟩
def dkwX6_puts_0 : List UInt8 := [42, 180, 0, 7, 16, 9, 27, 104, 28, 96, 29, 79, 177]
abbrev dktX6_puts_0 : List UInt8 := dkwX6_puts_0 ++ []
theorem dksX6_puts_0 : cX6_puts.data.toList.drop 0 = dktX6_puts_0 := by decide +kernel
theorem dX6_puts_0 : decode cX6_puts 0 = .ok (.aload_n 0, 1) := dk_42 (dk_at dksX6_puts_0 0 rfl rfl)
theorem dX6_puts_1 : decode cX6_puts 1 = .ok (.getfield 7, 3) := dk_180 0 7 (dk_at dksX6_puts_0 1 rfl rfl)
theorem dX6_puts_4 : decode cX6_puts 4 = .ok (.bipush 9, 2) := dk_16 9 (dk_at dksX6_puts_0 4 rfl rfl)
theorem dX6_puts_6 : decode cX6_puts 6 = .ok (.iload_n 1, 1) := dk_27 (dk_at dksX6_puts_0 6 rfl rfl)
theorem dX6_puts_7 : decode cX6_puts 7 = .ok (.imul, 1) := dk_104 (dk_at dksX6_puts_0 7 rfl rfl)
theorem dX6_puts_8 : decode cX6_puts 8 = .ok (.iload_n 2, 1) := dk_28 (dk_at dksX6_puts_0 8 rfl rfl)
theorem dX6_puts_9 : decode cX6_puts 9 = .ok (.iadd, 1) := dk_96 (dk_at dksX6_puts_0 9 rfl rfl)
theorem dX6_puts_10 : decode cX6_puts 10 = .ok (.iload_n 3, 1) := dk_29 (dk_at dksX6_puts_0 10 rfl rfl)
theorem dX6_puts_11 : decode cX6_puts 11 = .ok (.iastore, 1) := dk_79 (dk_at dksX6_puts_0 11 rfl rfl)
theorem dX6_puts_12 : decode cX6_puts 12 = .ok (.return_, 1) := dk_177 (dk_at dksX6_puts_0 12 rfl rfl)
abbrev cX6_stick : ByteArray := prog_17_method_13_code
def yX6_stick : MethodName := ⟨RX6, "stick", "(III)Z"⟩
def dkwX6_stick_3 : List UInt8 := [3, 172, 42, 27, 28, 29, 182, 0, 105, 4, 172]
abbrev dktX6_stick_3 : List UInt8 := dkwX6_stick_3 ++ []
def dkwX6_stick_2 : List UInt8 := [160, 0, 8, 16, 9, 167, 0, 6, 17, 39, 15, 54, 4, 42, 29, 3, 21, 4, 182, 0, 109, 154, 0, 5]
abbrev dktX6_stick_2 : List UInt8 := dkwX6_stick_2 ++ dktX6_stick_3
def dkwX6_stick_1 : List UInt8 := [3, 172, 28, 154, 0, 7, 7, 167, 0, 27, 28, 4, 160, 0, 8, 16, 99, 167, 0, 17, 28, 16, 6]
abbrev dktX6_stick_1 : List UInt8 := dkwX6_stick_1 ++ dktX6_stick_2
def dkwX6_stick_0 : List UInt8 := [42, 3, 181, 0, 90, 42, 27, 182, 0, 113, 153, 0, 14, 42, 28, 3, 16, 6, 182, 0, 109, 154, 0, 5]
abbrev dktX6_stick_0 : List UInt8 := dkwX6_stick_0 ++ dktX6_stick_1
theorem dksX6_stick_0 : cX6_stick.data.toList.drop 0 = dktX6_stick_0 := by decide +kernel
theorem dksX6_stick_1 : cX6_stick.data.toList.drop 24 = dktX6_stick_1 := dk_seg dksX6_stick_0 24 rfl rfl
theorem dksX6_stick_2 : cX6_stick.data.toList.drop 47 = dktX6_stick_2 := dk_seg dksX6_stick_1 23 rfl rfl
theorem dksX6_stick_3 : cX6_stick.data.toList.drop 71 = dktX6_stick_3 := dk_seg dksX6_stick_2 24 rfl rfl
theorem dX6_stick_0 : decode cX6_stick 0 = .ok (.aload_n 0, 1) := dk_42 (dk_at dksX6_stick_0 0 rfl rfl)
theorem dX6_stick_1 : decode cX6_stick 1 = .ok (.iconst 0, 1) := dk_3 (dk_at dksX6_stick_0 1 rfl rfl)
theorem dX6_stick_2 : decode cX6_stick 2 = .ok (.putfield 90, 3) := dk_181 0 90 (dk_at dksX6_stick_0 2 rfl rfl)
theorem dX6_stick_5 : decode cX6_stick 5 = .ok (.aload_n 0, 1) := dk_42 (dk_at dksX6_stick_0 5 rfl rfl)
theorem dX6_stick_6 : decode cX6_stick 6 = .ok (.iload_n 1, 1) := dk_27 (dk_at dksX6_stick_0 6 rfl rfl)
theorem dX6_stick_7 : decode cX6_stick 7 = .ok (.invokevirtual 113, 3) := dk_182 0 113 (dk_at dksX6_stick_0 7 rfl rfl)
theorem dX6_stick_10 : decode cX6_stick 10 = .ok (.ifCond .eq 14, 3) := dk_153 0 14 (dk_at dksX6_stick_0 10 rfl rfl)
theorem dX6_stick_13 : decode cX6_stick 13 = .ok (.aload_n 0, 1) := dk_42 (dk_at dksX6_stick_0 13 rfl rfl)
theorem dX6_stick_14 : decode cX6_stick 14 = .ok (.iload_n 2, 1) := dk_28 (dk_at dksX6_stick_0 14 rfl rfl)
theorem dX6_stick_15 : decode cX6_stick 15 = .ok (.iconst 0, 1) := dk_3 (dk_at dksX6_stick_0 15 rfl rfl)
theorem dX6_stick_16 : decode cX6_stick 16 = .ok (.bipush 6, 2) := dk_16 6 (dk_at dksX6_stick_0 16 rfl rfl)
theorem dX6_stick_18 : decode cX6_stick 18 = .ok (.invokevirtual 109, 3) := dk_182 0 109 (dk_at dksX6_stick_0 18 rfl rfl)
theorem dX6_stick_21 : decode cX6_stick 21 = .ok (.ifCond .ne 5, 3) := dk_154 0 5 (dk_at dksX6_stick_0 21 rfl rfl)
theorem dX6_stick_24 : decode cX6_stick 24 = .ok (.iconst 0, 1) := dk_3 (dk_at dksX6_stick_1 0 rfl rfl)
theorem dX6_stick_25 : decode cX6_stick 25 = .ok (.ireturn, 1) := dk_172 (dk_at dksX6_stick_1 1 rfl rfl)
theorem dX6_stick_26 : decode cX6_stick 26 = .ok (.iload_n 2, 1) := dk_28 (dk_at dksX6_stick_1 2 rfl rfl)
theorem dX6_stick_27 : decode cX6_stick 27 = .ok (.ifCond .ne 7, 3) := dk_154 0 7 (dk_at dksX6_stick_1 3 rfl rfl)
theorem dX6_stick_30 : decode cX6_stick 30 = .ok (.iconst 4, 1) := dk_7 (dk_at dksX6_stick_1 6 rfl rfl)
theorem dX6_stick_31 : decode cX6_stick 31 = .ok (.goto 27, 3) := dk_167 0 27 (dk_at dksX6_stick_1 7 rfl rfl)
theorem dX6_stick_34 : decode cX6_stick 34 = .ok (.iload_n 2, 1) := dk_28 (dk_at dksX6_stick_1 10 rfl rfl)
theorem dX6_stick_35 : decode cX6_stick 35 = .ok (.iconst 1, 1) := dk_4 (dk_at dksX6_stick_1 11 rfl rfl)
theorem dX6_stick_36 : decode cX6_stick 36 = .ok (.if_icmp .ne 8, 3) := dk_160 0 8 (dk_at dksX6_stick_1 12 rfl rfl)
theorem dX6_stick_39 : decode cX6_stick 39 = .ok (.bipush 99, 2) := dk_16 99 (dk_at dksX6_stick_1 15 rfl rfl)
theorem dX6_stick_41 : decode cX6_stick 41 = .ok (.goto 17, 3) := dk_167 0 17 (dk_at dksX6_stick_1 17 rfl rfl)
theorem dX6_stick_44 : decode cX6_stick 44 = .ok (.iload_n 2, 1) := dk_28 (dk_at dksX6_stick_1 20 rfl rfl)
theorem dX6_stick_45 : decode cX6_stick 45 = .ok (.bipush 6, 2) := dk_16 6 (dk_at dksX6_stick_1 21 rfl rfl)
theorem dX6_stick_47 : decode cX6_stick 47 = .ok (.if_icmp .ne 8, 3) := dk_160 0 8 (dk_at dksX6_stick_2 0 rfl rfl)
theorem dX6_stick_50 : decode cX6_stick 50 = .ok (.bipush 9, 2) := dk_16 9 (dk_at dksX6_stick_2 3 rfl rfl)
theorem dX6_stick_52 : decode cX6_stick 52 = .ok (.goto 6, 3) := dk_167 0 6 (dk_at dksX6_stick_2 5 rfl rfl)
theorem dX6_stick_55 : decode cX6_stick 55 = .ok (.sipush 9999, 3) := dk_17 39 15 (dk_at dksX6_stick_2 8 rfl rfl)
theorem dX6_stick_58 : decode cX6_stick 58 = .ok (.istore 4, 2) := dk_54 4 (dk_at dksX6_stick_2 11 rfl rfl)
theorem dX6_stick_60 : decode cX6_stick 60 = .ok (.aload_n 0, 1) := dk_42 (dk_at dksX6_stick_2 13 rfl rfl)
theorem dX6_stick_61 : decode cX6_stick 61 = .ok (.iload_n 3, 1) := dk_29 (dk_at dksX6_stick_2 14 rfl rfl)
theorem dX6_stick_62 : decode cX6_stick 62 = .ok (.iconst 0, 1) := dk_3 (dk_at dksX6_stick_2 15 rfl rfl)
theorem dX6_stick_63 : decode cX6_stick 63 = .ok (.iload 4, 2) := dk_21 4 (dk_at dksX6_stick_2 16 rfl rfl)
theorem dX6_stick_65 : decode cX6_stick 65 = .ok (.invokevirtual 109, 3) := dk_182 0 109 (dk_at dksX6_stick_2 18 rfl rfl)
theorem dX6_stick_68 : decode cX6_stick 68 = .ok (.ifCond .ne 5, 3) := dk_154 0 5 (dk_at dksX6_stick_2 21 rfl rfl)
theorem dX6_stick_71 : decode cX6_stick 71 = .ok (.iconst 0, 1) := dk_3 (dk_at dksX6_stick_3 0 rfl rfl)
theorem dX6_stick_72 : decode cX6_stick 72 = .ok (.ireturn, 1) := dk_172 (dk_at dksX6_stick_3 1 rfl rfl)
theorem dX6_stick_73 : decode cX6_stick 73 = .ok (.aload_n 0, 1) := dk_42 (dk_at dksX6_stick_3 2 rfl rfl)
theorem dX6_stick_74 : decode cX6_stick 74 = .ok (.iload_n 1, 1) := dk_27 (dk_at dksX6_stick_3 3 rfl rfl)
theorem dX6_stick_75 : decode cX6_stick 75 = .ok (.iload_n 2, 1) := dk_28 (dk_at dksX6_stick_3 4 rfl rfl)
theorem dX6_stick_76 : decode cX6_stick 76 = .ok (.iload_n 3, 1) := dk_29 (dk_at dksX6_stick_3 5 rfl rfl)
theorem dX6_stick_77 : decode cX6_stick 77 = .ok (.invokevirtual 105, 3) := dk_182 0 105 (dk_at dksX6_stick_3 6 rfl rfl)
theorem dX6_stick_80 : decode cX6_stick 80 = .ok (.iconst 1, 1) := dk_4 (dk_at dksX6_stick_3 9 rfl rfl)
theorem dX6_stick_81 : decode cX6_stick 81 = .ok (.ireturn, 1) := dk_172 (dk_at dksX6_stick_3 10 rfl rfl)
abbrev cX6_isOne : ByteArray := prog_17_method_6_code
def yX6_isOne : MethodName := ⟨RX6, "isOne", "(I)Z"⟩
def dkwX6_isOne_0 : List UInt8 := [27, 155, 0, 15, 27, 42, 180, 0, 98, 162, 0, 7, 4, 167, 0, 4, 3, 172]
abbrev dktX6_isOne_0 : List UInt8 := dkwX6_isOne_0 ++ []
theorem dksX6_isOne_0 : cX6_isOne.data.toList.drop 0 = dktX6_isOne_0 := by decide +kernel
theorem dX6_isOne_0 : decode cX6_isOne 0 = .ok (.iload_n 1, 1) := dk_27 (dk_at dksX6_isOne_0 0 rfl rfl)
theorem dX6_isOne_1 : decode cX6_isOne 1 = .ok (.ifCond .lt 15, 3) := dk_155 0 15 (dk_at dksX6_isOne_0 1 rfl rfl)
theorem dX6_isOne_4 : decode cX6_isOne 4 = .ok (.iload_n 1, 1) := dk_27 (dk_at dksX6_isOne_0 4 rfl rfl)
theorem dX6_isOne_5 : decode cX6_isOne 5 = .ok (.aload_n 0, 1) := dk_42 (dk_at dksX6_isOne_0 5 rfl rfl)
theorem dX6_isOne_6 : decode cX6_isOne 6 = .ok (.getfield 98, 3) := dk_180 0 98 (dk_at dksX6_isOne_0 6 rfl rfl)
theorem dX6_isOne_9 : decode cX6_isOne 9 = .ok (.if_icmp .ge 7, 3) := dk_162 0 7 (dk_at dksX6_isOne_0 9 rfl rfl)
theorem dX6_isOne_12 : decode cX6_isOne 12 = .ok (.iconst 1, 1) := dk_4 (dk_at dksX6_isOne_0 12 rfl rfl)
theorem dX6_isOne_13 : decode cX6_isOne 13 = .ok (.goto 4, 3) := dk_167 0 4 (dk_at dksX6_isOne_0 13 rfl rfl)
theorem dX6_isOne_16 : decode cX6_isOne 16 = .ok (.iconst 0, 1) := dk_3 (dk_at dksX6_isOne_0 16 rfl rfl)
theorem dX6_isOne_17 : decode cX6_isOne 17 = .ok (.ireturn, 1) := dk_172 (dk_at dksX6_isOne_0 17 rfl rfl)
abbrev cX6_set : ByteArray := prog_17_method_15_code
def yX6_set : MethodName := ⟨RX6, "set", "(II)Z"⟩
def dkwX6_set_1 : List UInt8 := [3, 42, 27, 182, 0, 117, 182, 0, 109, 154, 0, 5, 3, 172, 42, 180, 0, 13, 27, 28, 79, 4, 172]
abbrev dktX6_set_1 : List UInt8 := dkwX6_set_1 ++ []
def dkwX6_set_0 : List UInt8 := [42, 3, 181, 0, 90, 42, 27, 3, 16, 22, 182, 0, 109, 153, 0, 23, 27, 16, 10, 159, 0, 17, 42, 28]
abbrev dktX6_set_0 : List UInt8 := dkwX6_set_0 ++ dktX6_set_1
theorem dksX6_set_0 : cX6_set.data.toList.drop 0 = dktX6_set_0 := by decide +kernel
theorem dksX6_set_1 : cX6_set.data.toList.drop 24 = dktX6_set_1 := dk_seg dksX6_set_0 24 rfl rfl
theorem dX6_set_0 : decode cX6_set 0 = .ok (.aload_n 0, 1) := dk_42 (dk_at dksX6_set_0 0 rfl rfl)
theorem dX6_set_1 : decode cX6_set 1 = .ok (.iconst 0, 1) := dk_3 (dk_at dksX6_set_0 1 rfl rfl)
theorem dX6_set_2 : decode cX6_set 2 = .ok (.putfield 90, 3) := dk_181 0 90 (dk_at dksX6_set_0 2 rfl rfl)
theorem dX6_set_5 : decode cX6_set 5 = .ok (.aload_n 0, 1) := dk_42 (dk_at dksX6_set_0 5 rfl rfl)
theorem dX6_set_6 : decode cX6_set 6 = .ok (.iload_n 1, 1) := dk_27 (dk_at dksX6_set_0 6 rfl rfl)
theorem dX6_set_7 : decode cX6_set 7 = .ok (.iconst 0, 1) := dk_3 (dk_at dksX6_set_0 7 rfl rfl)
theorem dX6_set_8 : decode cX6_set 8 = .ok (.bipush 22, 2) := dk_16 22 (dk_at dksX6_set_0 8 rfl rfl)
theorem dX6_set_10 : decode cX6_set 10 = .ok (.invokevirtual 109, 3) := dk_182 0 109 (dk_at dksX6_set_0 10 rfl rfl)
theorem dX6_set_13 : decode cX6_set 13 = .ok (.ifCond .eq 23, 3) := dk_153 0 23 (dk_at dksX6_set_0 13 rfl rfl)
theorem dX6_set_16 : decode cX6_set 16 = .ok (.iload_n 1, 1) := dk_27 (dk_at dksX6_set_0 16 rfl rfl)
theorem dX6_set_17 : decode cX6_set 17 = .ok (.bipush 10, 2) := dk_16 10 (dk_at dksX6_set_0 17 rfl rfl)
theorem dX6_set_19 : decode cX6_set 19 = .ok (.if_icmp .eq 17, 3) := dk_159 0 17 (dk_at dksX6_set_0 19 rfl rfl)
theorem dX6_set_22 : decode cX6_set 22 = .ok (.aload_n 0, 1) := dk_42 (dk_at dksX6_set_0 22 rfl rfl)
theorem dX6_set_23 : decode cX6_set 23 = .ok (.iload_n 2, 1) := dk_28 (dk_at dksX6_set_0 23 rfl rfl)
theorem dX6_set_24 : decode cX6_set 24 = .ok (.iconst 0, 1) := dk_3 (dk_at dksX6_set_1 0 rfl rfl)
theorem dX6_set_25 : decode cX6_set 25 = .ok (.aload_n 0, 1) := dk_42 (dk_at dksX6_set_1 1 rfl rfl)
theorem dX6_set_26 : decode cX6_set 26 = .ok (.iload_n 1, 1) := dk_27 (dk_at dksX6_set_1 2 rfl rfl)
theorem dX6_set_27 : decode cX6_set 27 = .ok (.invokevirtual 117, 3) := dk_182 0 117 (dk_at dksX6_set_1 3 rfl rfl)
theorem dX6_set_30 : decode cX6_set 30 = .ok (.invokevirtual 109, 3) := dk_182 0 109 (dk_at dksX6_set_1 6 rfl rfl)
theorem dX6_set_33 : decode cX6_set 33 = .ok (.ifCond .ne 5, 3) := dk_154 0 5 (dk_at dksX6_set_1 9 rfl rfl)
theorem dX6_set_36 : decode cX6_set 36 = .ok (.iconst 0, 1) := dk_3 (dk_at dksX6_set_1 12 rfl rfl)
theorem dX6_set_37 : decode cX6_set 37 = .ok (.ireturn, 1) := dk_172 (dk_at dksX6_set_1 13 rfl rfl)
theorem dX6_set_38 : decode cX6_set 38 = .ok (.aload_n 0, 1) := dk_42 (dk_at dksX6_set_1 14 rfl rfl)
theorem dX6_set_39 : decode cX6_set 39 = .ok (.getfield 13, 3) := dk_180 0 13 (dk_at dksX6_set_1 15 rfl rfl)
theorem dX6_set_42 : decode cX6_set 42 = .ok (.iload_n 1, 1) := dk_27 (dk_at dksX6_set_1 18 rfl rfl)
theorem dX6_set_43 : decode cX6_set 43 = .ok (.iload_n 2, 1) := dk_28 (dk_at dksX6_set_1 19 rfl rfl)
theorem dX6_set_44 : decode cX6_set 44 = .ok (.iastore, 1) := dk_79 (dk_at dksX6_set_1 20 rfl rfl)
theorem dX6_set_45 : decode cX6_set 45 = .ok (.iconst 1, 1) := dk_4 (dk_at dksX6_set_1 21 rfl rfl)
theorem dX6_set_46 : decode cX6_set 46 = .ok (.ireturn, 1) := dk_172 (dk_at dksX6_set_1 22 rfl rfl)
abbrev cX6_mostOf : ByteArray := prog_17_method_14_code
def yX6_mostOf : MethodName := ⟨RX6, "mostOf", "(I)I"⟩
def dkwX6_mostOf_1 : List UInt8 := [16, 20, 172, 27, 16, 9, 160, 0, 7, 4, 167, 0, 5, 16, 99, 172]
abbrev dktX6_mostOf_1 : List UInt8 := dkwX6_mostOf_1 ++ []
def dkwX6_mostOf_0 : List UInt8 := [27, 8, 160, 0, 7, 17, 3, 232, 172, 27, 16, 6, 160, 0, 6, 16, 9, 172, 27, 16, 8, 160, 0, 6]
abbrev dktX6_mostOf_0 : List UInt8 := dkwX6_mostOf_0 ++ dktX6_mostOf_1
theorem dksX6_mostOf_0 : cX6_mostOf.data.toList.drop 0 = dktX6_mostOf_0 := by decide +kernel
theorem dksX6_mostOf_1 : cX6_mostOf.data.toList.drop 24 = dktX6_mostOf_1 := dk_seg dksX6_mostOf_0 24 rfl rfl
theorem dX6_mostOf_0 : decode cX6_mostOf 0 = .ok (.iload_n 1, 1) := dk_27 (dk_at dksX6_mostOf_0 0 rfl rfl)
theorem dX6_mostOf_1 : decode cX6_mostOf 1 = .ok (.iconst 5, 1) := dk_8 (dk_at dksX6_mostOf_0 1 rfl rfl)
theorem dX6_mostOf_2 : decode cX6_mostOf 2 = .ok (.if_icmp .ne 7, 3) := dk_160 0 7 (dk_at dksX6_mostOf_0 2 rfl rfl)
theorem dX6_mostOf_5 : decode cX6_mostOf 5 = .ok (.sipush 1000, 3) := dk_17 3 232 (dk_at dksX6_mostOf_0 5 rfl rfl)
theorem dX6_mostOf_8 : decode cX6_mostOf 8 = .ok (.ireturn, 1) := dk_172 (dk_at dksX6_mostOf_0 8 rfl rfl)
theorem dX6_mostOf_9 : decode cX6_mostOf 9 = .ok (.iload_n 1, 1) := dk_27 (dk_at dksX6_mostOf_0 9 rfl rfl)
theorem dX6_mostOf_10 : decode cX6_mostOf 10 = .ok (.bipush 6, 2) := dk_16 6 (dk_at dksX6_mostOf_0 10 rfl rfl)
theorem dX6_mostOf_12 : decode cX6_mostOf 12 = .ok (.if_icmp .ne 6, 3) := dk_160 0 6 (dk_at dksX6_mostOf_0 12 rfl rfl)
theorem dX6_mostOf_15 : decode cX6_mostOf 15 = .ok (.bipush 9, 2) := dk_16 9 (dk_at dksX6_mostOf_0 15 rfl rfl)
theorem dX6_mostOf_17 : decode cX6_mostOf 17 = .ok (.ireturn, 1) := dk_172 (dk_at dksX6_mostOf_0 17 rfl rfl)
theorem dX6_mostOf_18 : decode cX6_mostOf 18 = .ok (.iload_n 1, 1) := dk_27 (dk_at dksX6_mostOf_0 18 rfl rfl)
theorem dX6_mostOf_19 : decode cX6_mostOf 19 = .ok (.bipush 8, 2) := dk_16 8 (dk_at dksX6_mostOf_0 19 rfl rfl)
theorem dX6_mostOf_21 : decode cX6_mostOf 21 = .ok (.if_icmp .ne 6, 3) := dk_160 0 6 (dk_at dksX6_mostOf_0 21 rfl rfl)
theorem dX6_mostOf_24 : decode cX6_mostOf 24 = .ok (.bipush 20, 2) := dk_16 20 (dk_at dksX6_mostOf_1 0 rfl rfl)
theorem dX6_mostOf_26 : decode cX6_mostOf 26 = .ok (.ireturn, 1) := dk_172 (dk_at dksX6_mostOf_1 2 rfl rfl)
theorem dX6_mostOf_27 : decode cX6_mostOf 27 = .ok (.iload_n 1, 1) := dk_27 (dk_at dksX6_mostOf_1 3 rfl rfl)
theorem dX6_mostOf_28 : decode cX6_mostOf 28 = .ok (.bipush 9, 2) := dk_16 9 (dk_at dksX6_mostOf_1 4 rfl rfl)
theorem dX6_mostOf_30 : decode cX6_mostOf 30 = .ok (.if_icmp .ne 7, 3) := dk_160 0 7 (dk_at dksX6_mostOf_1 6 rfl rfl)
theorem dX6_mostOf_33 : decode cX6_mostOf 33 = .ok (.iconst 1, 1) := dk_4 (dk_at dksX6_mostOf_1 9 rfl rfl)
theorem dX6_mostOf_34 : decode cX6_mostOf 34 = .ok (.goto 5, 3) := dk_167 0 5 (dk_at dksX6_mostOf_1 10 rfl rfl)
theorem dX6_mostOf_37 : decode cX6_mostOf 37 = .ok (.bipush 99, 2) := dk_16 99 (dk_at dksX6_mostOf_1 13 rfl rfl)
theorem dX6_mostOf_39 : decode cX6_mostOf 39 = .ok (.ireturn, 1) := dk_172 (dk_at dksX6_mostOf_1 15 rfl rfl)
abbrev cX6_feed : ByteArray := prog_17_method_18_code
def yX6_feed : MethodName := ⟨RX6, "feed", "(IIIII)I"⟩
def dkwX6_feed_2 : List UInt8 := [172]
abbrev dktX6_feed_2 : List UInt8 := dkwX6_feed_2 ++ []
def dkwX6_feed_1 : List UInt8 := [182, 0, 124, 42, 29, 182, 0, 124, 42, 21, 4, 182, 0, 124, 42, 21, 5, 182, 0, 124, 42, 180, 0, 121]
abbrev dktX6_feed_1 : List UInt8 := dkwX6_feed_1 ++ dktX6_feed_2
def dkwX6_feed_0 : List UInt8 := [42, 3, 181, 0, 90, 42, 180, 0, 121, 17, 1, 124, 164, 0, 5, 2, 172, 42, 27, 182, 0, 124, 42, 28]
abbrev dktX6_feed_0 : List UInt8 := dkwX6_feed_0 ++ dktX6_feed_1
theorem dksX6_feed_0 : cX6_feed.data.toList.drop 0 = dktX6_feed_0 := by decide +kernel
theorem dksX6_feed_1 : cX6_feed.data.toList.drop 24 = dktX6_feed_1 := dk_seg dksX6_feed_0 24 rfl rfl
theorem dksX6_feed_2 : cX6_feed.data.toList.drop 48 = dktX6_feed_2 := dk_seg dksX6_feed_1 24 rfl rfl
theorem dX6_feed_0 : decode cX6_feed 0 = .ok (.aload_n 0, 1) := dk_42 (dk_at dksX6_feed_0 0 rfl rfl)
theorem dX6_feed_1 : decode cX6_feed 1 = .ok (.iconst 0, 1) := dk_3 (dk_at dksX6_feed_0 1 rfl rfl)
theorem dX6_feed_2 : decode cX6_feed 2 = .ok (.putfield 90, 3) := dk_181 0 90 (dk_at dksX6_feed_0 2 rfl rfl)
theorem dX6_feed_5 : decode cX6_feed 5 = .ok (.aload_n 0, 1) := dk_42 (dk_at dksX6_feed_0 5 rfl rfl)
theorem dX6_feed_6 : decode cX6_feed 6 = .ok (.getfield 121, 3) := dk_180 0 121 (dk_at dksX6_feed_0 6 rfl rfl)
theorem dX6_feed_9 : decode cX6_feed 9 = .ok (.sipush 380, 3) := dk_17 1 124 (dk_at dksX6_feed_0 9 rfl rfl)
theorem dX6_feed_12 : decode cX6_feed 12 = .ok (.if_icmp .le 5, 3) := dk_164 0 5 (dk_at dksX6_feed_0 12 rfl rfl)
theorem dX6_feed_15 : decode cX6_feed 15 = .ok (.iconst (-1), 1) := dk_2 (dk_at dksX6_feed_0 15 rfl rfl)
theorem dX6_feed_16 : decode cX6_feed 16 = .ok (.ireturn, 1) := dk_172 (dk_at dksX6_feed_0 16 rfl rfl)
theorem dX6_feed_17 : decode cX6_feed 17 = .ok (.aload_n 0, 1) := dk_42 (dk_at dksX6_feed_0 17 rfl rfl)
theorem dX6_feed_18 : decode cX6_feed 18 = .ok (.iload_n 1, 1) := dk_27 (dk_at dksX6_feed_0 18 rfl rfl)
theorem dX6_feed_19 : decode cX6_feed 19 = .ok (.invokevirtual 124, 3) := dk_182 0 124 (dk_at dksX6_feed_0 19 rfl rfl)
theorem dX6_feed_22 : decode cX6_feed 22 = .ok (.aload_n 0, 1) := dk_42 (dk_at dksX6_feed_0 22 rfl rfl)
theorem dX6_feed_23 : decode cX6_feed 23 = .ok (.iload_n 2, 1) := dk_28 (dk_at dksX6_feed_0 23 rfl rfl)
theorem dX6_feed_24 : decode cX6_feed 24 = .ok (.invokevirtual 124, 3) := dk_182 0 124 (dk_at dksX6_feed_1 0 rfl rfl)
theorem dX6_feed_27 : decode cX6_feed 27 = .ok (.aload_n 0, 1) := dk_42 (dk_at dksX6_feed_1 3 rfl rfl)
theorem dX6_feed_28 : decode cX6_feed 28 = .ok (.iload_n 3, 1) := dk_29 (dk_at dksX6_feed_1 4 rfl rfl)
theorem dX6_feed_29 : decode cX6_feed 29 = .ok (.invokevirtual 124, 3) := dk_182 0 124 (dk_at dksX6_feed_1 5 rfl rfl)
theorem dX6_feed_32 : decode cX6_feed 32 = .ok (.aload_n 0, 1) := dk_42 (dk_at dksX6_feed_1 8 rfl rfl)
theorem dX6_feed_33 : decode cX6_feed 33 = .ok (.iload 4, 2) := dk_21 4 (dk_at dksX6_feed_1 9 rfl rfl)
theorem dX6_feed_35 : decode cX6_feed 35 = .ok (.invokevirtual 124, 3) := dk_182 0 124 (dk_at dksX6_feed_1 11 rfl rfl)
theorem dX6_feed_38 : decode cX6_feed 38 = .ok (.aload_n 0, 1) := dk_42 (dk_at dksX6_feed_1 14 rfl rfl)
theorem dX6_feed_39 : decode cX6_feed 39 = .ok (.iload 5, 2) := dk_21 5 (dk_at dksX6_feed_1 15 rfl rfl)
theorem dX6_feed_41 : decode cX6_feed 41 = .ok (.invokevirtual 124, 3) := dk_182 0 124 (dk_at dksX6_feed_1 17 rfl rfl)
theorem dX6_feed_44 : decode cX6_feed 44 = .ok (.aload_n 0, 1) := dk_42 (dk_at dksX6_feed_1 20 rfl rfl)
theorem dX6_feed_45 : decode cX6_feed 45 = .ok (.getfield 121, 3) := dk_180 0 121 (dk_at dksX6_feed_1 21 rfl rfl)
theorem dX6_feed_48 : decode cX6_feed 48 = .ok (.ireturn, 1) := dk_172 (dk_at dksX6_feed_2 0 rfl rfl)
abbrev cX6_types : ByteArray := prog_17_method_17_code
def yX6_types : MethodName := ⟨RX6, "types", "(I)V"⟩
def dkwX6_types_1 : List UInt8 := [42, 180, 0, 121, 4, 96, 181, 0, 121, 132, 2, 248, 167, 255, 223, 177]
abbrev dktX6_types_1 : List UInt8 := dkwX6_types_1 ++ []
def dkwX6_types_0 : List UInt8 := [16, 24, 61, 28, 155, 0, 35, 42, 180, 0, 19, 42, 180, 0, 121, 27, 28, 122, 17, 0, 255, 126, 79, 42]
abbrev dktX6_types_0 : List UInt8 := dkwX6_types_0 ++ dktX6_types_1
theorem dksX6_types_0 : cX6_types.data.toList.drop 0 = dktX6_types_0 := by decide +kernel
theorem dksX6_types_1 : cX6_types.data.toList.drop 24 = dktX6_types_1 := dk_seg dksX6_types_0 24 rfl rfl
theorem dX6_types_0 : decode cX6_types 0 = .ok (.bipush 24, 2) := dk_16 24 (dk_at dksX6_types_0 0 rfl rfl)
theorem dX6_types_2 : decode cX6_types 2 = .ok (.istore_n 2, 1) := dk_61 (dk_at dksX6_types_0 2 rfl rfl)
theorem dX6_types_3 : decode cX6_types 3 = .ok (.iload_n 2, 1) := dk_28 (dk_at dksX6_types_0 3 rfl rfl)
theorem dX6_types_4 : decode cX6_types 4 = .ok (.ifCond .lt 35, 3) := dk_155 0 35 (dk_at dksX6_types_0 4 rfl rfl)
theorem dX6_types_7 : decode cX6_types 7 = .ok (.aload_n 0, 1) := dk_42 (dk_at dksX6_types_0 7 rfl rfl)
theorem dX6_types_8 : decode cX6_types 8 = .ok (.getfield 19, 3) := dk_180 0 19 (dk_at dksX6_types_0 8 rfl rfl)
theorem dX6_types_11 : decode cX6_types 11 = .ok (.aload_n 0, 1) := dk_42 (dk_at dksX6_types_0 11 rfl rfl)
theorem dX6_types_12 : decode cX6_types 12 = .ok (.getfield 121, 3) := dk_180 0 121 (dk_at dksX6_types_0 12 rfl rfl)
theorem dX6_types_15 : decode cX6_types 15 = .ok (.iload_n 1, 1) := dk_27 (dk_at dksX6_types_0 15 rfl rfl)
theorem dX6_types_16 : decode cX6_types 16 = .ok (.iload_n 2, 1) := dk_28 (dk_at dksX6_types_0 16 rfl rfl)
theorem dX6_types_17 : decode cX6_types 17 = .ok (.ishr, 1) := dk_122 (dk_at dksX6_types_0 17 rfl rfl)
theorem dX6_types_18 : decode cX6_types 18 = .ok (.sipush 255, 3) := dk_17 0 255 (dk_at dksX6_types_0 18 rfl rfl)
theorem dX6_types_21 : decode cX6_types 21 = .ok (.iand, 1) := dk_126 (dk_at dksX6_types_0 21 rfl rfl)
theorem dX6_types_22 : decode cX6_types 22 = .ok (.iastore, 1) := dk_79 (dk_at dksX6_types_0 22 rfl rfl)
theorem dX6_types_23 : decode cX6_types 23 = .ok (.aload_n 0, 1) := dk_42 (dk_at dksX6_types_0 23 rfl rfl)
theorem dX6_types_24 : decode cX6_types 24 = .ok (.aload_n 0, 1) := dk_42 (dk_at dksX6_types_1 0 rfl rfl)
theorem dX6_types_25 : decode cX6_types 25 = .ok (.getfield 121, 3) := dk_180 0 121 (dk_at dksX6_types_1 1 rfl rfl)
theorem dX6_types_28 : decode cX6_types 28 = .ok (.iconst 1, 1) := dk_4 (dk_at dksX6_types_1 4 rfl rfl)
theorem dX6_types_29 : decode cX6_types 29 = .ok (.iadd, 1) := dk_96 (dk_at dksX6_types_1 5 rfl rfl)
theorem dX6_types_30 : decode cX6_types 30 = .ok (.putfield 121, 3) := dk_181 0 121 (dk_at dksX6_types_1 6 rfl rfl)
theorem dX6_types_33 : decode cX6_types 33 = .ok (.iinc 2 (-8), 3) := dk_132 2 248 (dk_at dksX6_types_1 9 rfl rfl)
theorem dX6_types_36 : decode cX6_types 36 = .ok (.goto (-33), 3) := dk_167 255 223 (dk_at dksX6_types_1 12 rfl rfl)
theorem dX6_types_39 : decode cX6_types 39 = .ok (.return_, 1) := dk_177 (dk_at dksX6_types_1 15 rfl rfl)
abbrev cX6_end : ByteArray := prog_17_method_19_code
def yX6_end : MethodName := ⟨RX6, "end", "(I)Z"⟩
def dkwX6_end_1 : List UInt8 := [181, 0, 121, 4, 172]
abbrev dktX6_end_1 : List UInt8 := dkwX6_end_1 ++ []
def dkwX6_end_0 : List UInt8 := [42, 3, 181, 0, 90, 42, 27, 3, 42, 180, 0, 121, 182, 0, 109, 154, 0, 5, 3, 172, 42, 27]
abbrev dktX6_end_0 : List UInt8 := dkwX6_end_0 ++ dktX6_end_1
theorem dksX6_end_0 : cX6_end.data.toList.drop 0 = dktX6_end_0 := by decide +kernel
theorem dksX6_end_1 : cX6_end.data.toList.drop 22 = dktX6_end_1 := dk_seg dksX6_end_0 22 rfl rfl
theorem dX6_end_0 : decode cX6_end 0 = .ok (.aload_n 0, 1) := dk_42 (dk_at dksX6_end_0 0 rfl rfl)
theorem dX6_end_1 : decode cX6_end 1 = .ok (.iconst 0, 1) := dk_3 (dk_at dksX6_end_0 1 rfl rfl)
theorem dX6_end_2 : decode cX6_end 2 = .ok (.putfield 90, 3) := dk_181 0 90 (dk_at dksX6_end_0 2 rfl rfl)
theorem dX6_end_5 : decode cX6_end 5 = .ok (.aload_n 0, 1) := dk_42 (dk_at dksX6_end_0 5 rfl rfl)
theorem dX6_end_6 : decode cX6_end 6 = .ok (.iload_n 1, 1) := dk_27 (dk_at dksX6_end_0 6 rfl rfl)
theorem dX6_end_7 : decode cX6_end 7 = .ok (.iconst 0, 1) := dk_3 (dk_at dksX6_end_0 7 rfl rfl)
theorem dX6_end_8 : decode cX6_end 8 = .ok (.aload_n 0, 1) := dk_42 (dk_at dksX6_end_0 8 rfl rfl)
theorem dX6_end_9 : decode cX6_end 9 = .ok (.getfield 121, 3) := dk_180 0 121 (dk_at dksX6_end_0 9 rfl rfl)
theorem dX6_end_12 : decode cX6_end 12 = .ok (.invokevirtual 109, 3) := dk_182 0 109 (dk_at dksX6_end_0 12 rfl rfl)
theorem dX6_end_15 : decode cX6_end 15 = .ok (.ifCond .ne 5, 3) := dk_154 0 5 (dk_at dksX6_end_0 15 rfl rfl)
theorem dX6_end_18 : decode cX6_end 18 = .ok (.iconst 0, 1) := dk_3 (dk_at dksX6_end_0 18 rfl rfl)
theorem dX6_end_19 : decode cX6_end 19 = .ok (.ireturn, 1) := dk_172 (dk_at dksX6_end_0 19 rfl rfl)
theorem dX6_end_20 : decode cX6_end 20 = .ok (.aload_n 0, 1) := dk_42 (dk_at dksX6_end_0 20 rfl rfl)
theorem dX6_end_21 : decode cX6_end 21 = .ok (.iload_n 1, 1) := dk_27 (dk_at dksX6_end_0 21 rfl rfl)
theorem dX6_end_22 : decode cX6_end 22 = .ok (.putfield 121, 3) := dk_181 0 121 (dk_at dksX6_end_1 0 rfl rfl)
theorem dX6_end_25 : decode cX6_end 25 = .ok (.iconst 1, 1) := dk_4 (dk_at dksX6_end_1 3 rfl rfl)
theorem dX6_end_26 : decode cX6_end 26 = .ok (.ireturn, 1) := dk_172 (dk_at dksX6_end_1 4 rfl rfl)
abbrev cX6_text : ByteArray := prog_17_method_38_code
def yX6_text : MethodName := ⟨RX6, "text", "(I)I"⟩
def dkwX6_text_11 : List UInt8 := [180, 0, 25, 27, 29, 79, 29, 172]
abbrev dktX6_text_11 : List UInt8 := dkwX6_text_11 ++ []
def dkwX6_text_10 : List UInt8 := [21, 4, 96, 42, 180, 0, 40, 17, 9, 96, 21, 4, 96, 46, 79, 132, 4, 1, 167, 255, 196, 42]
abbrev dktX6_text_10 : List UInt8 := dkwX6_text_10 ++ dktX6_text_11
def dkwX6_text_9 : List UInt8 := [21, 4, 96, 42, 180, 0, 37, 17, 9, 96, 21, 4, 96, 46, 79, 42, 180, 0, 40, 17, 1, 144, 27, 104]
abbrev dktX6_text_9 : List UInt8 := dkwX6_text_9 ++ dktX6_text_10
def dkwX6_text_8 : List UInt8 := [167, 255, 181, 3, 54, 4, 21, 4, 42, 180, 0, 165, 162, 0, 57, 42, 180, 0, 37, 17, 1, 144, 27, 104]
abbrev dktX6_text_8 : List UInt8 := dkwX6_text_8 ++ dktX6_text_9
def dkwX6_text_7 : List UInt8 := [180, 0, 34, 16, 16, 27, 104, 21, 4, 96, 42, 180, 0, 34, 16, 96, 21, 4, 96, 46, 79, 132, 4, 1]
abbrev dktX6_text_7 : List UInt8 := dkwX6_text_7 ++ dktX6_text_8
def dkwX6_text_6 : List UInt8 := [180, 0, 31, 16, 16, 27, 104, 21, 4, 96, 42, 180, 0, 31, 16, 96, 21, 4, 96, 46, 79, 42]
abbrev dktX6_text_6 : List UInt8 := dkwX6_text_6 ++ dktX6_text_7
def dkwX6_text_5 : List UInt8 := [180, 0, 28, 16, 16, 27, 104, 21, 4, 96, 42, 180, 0, 28, 16, 96, 21, 4, 96, 46, 79, 42]
abbrev dktX6_text_5 : List UInt8 := dkwX6_text_5 ++ dktX6_text_6
def dkwX6_text_4 : List UInt8 := [180, 0, 162, 181, 0, 46, 29, 2, 160, 0, 5, 2, 172, 3, 54, 4, 21, 4, 29, 162, 0, 75, 42]
abbrev dktX6_text_4 : List UInt8 := dkwX6_text_4 ++ dktX6_text_5
def dkwX6_text_3 : List UInt8 := [181, 0, 121, 28, 153, 0, 24, 29, 2, 160, 0, 19, 42, 42, 180, 0, 159, 181, 0, 212, 42, 42]
abbrev dktX6_text_3 : List UInt8 := dkwX6_text_3 ++ dktX6_text_4
def dkwX6_text_2 : List UInt8 := [3, 181, 0, 194, 42, 182, 0, 175, 28, 153, 0, 10, 42, 182, 0, 215, 167, 0, 4, 2, 62, 42, 3]
abbrev dktX6_text_2 : List UInt8 := dkwX6_text_2 ++ dktX6_text_3
def dkwX6_text_1 : List UInt8 := [27, 5, 162, 0, 7, 4, 167, 0, 4, 3, 181, 0, 149, 42, 3, 181, 0, 128, 42, 3, 181, 0, 165, 42]
abbrev dktX6_text_1 : List UInt8 := dkwX6_text_1 ++ dktX6_text_2
def dkwX6_text_0 : List UInt8 := [42, 3, 181, 0, 90, 42, 3, 181, 0, 212, 42, 2, 181, 0, 46, 42, 27, 3, 8, 182, 0, 109, 61, 42]
abbrev dktX6_text_0 : List UInt8 := dkwX6_text_0 ++ dktX6_text_1
theorem dksX6_text_0 : cX6_text.data.toList.drop 0 = dktX6_text_0 := by decide +kernel
theorem dksX6_text_1 : cX6_text.data.toList.drop 24 = dktX6_text_1 := dk_seg dksX6_text_0 24 rfl rfl
theorem dksX6_text_2 : cX6_text.data.toList.drop 48 = dktX6_text_2 := dk_seg dksX6_text_1 24 rfl rfl
theorem dksX6_text_3 : cX6_text.data.toList.drop 71 = dktX6_text_3 := dk_seg dksX6_text_2 23 rfl rfl
theorem dksX6_text_4 : cX6_text.data.toList.drop 93 = dktX6_text_4 := dk_seg dksX6_text_3 22 rfl rfl
theorem dksX6_text_5 : cX6_text.data.toList.drop 116 = dktX6_text_5 := dk_seg dksX6_text_4 23 rfl rfl
theorem dksX6_text_6 : cX6_text.data.toList.drop 138 = dktX6_text_6 := dk_seg dksX6_text_5 22 rfl rfl
theorem dksX6_text_7 : cX6_text.data.toList.drop 160 = dktX6_text_7 := dk_seg dksX6_text_6 22 rfl rfl
theorem dksX6_text_8 : cX6_text.data.toList.drop 184 = dktX6_text_8 := dk_seg dksX6_text_7 24 rfl rfl
theorem dksX6_text_9 : cX6_text.data.toList.drop 208 = dktX6_text_9 := dk_seg dksX6_text_8 24 rfl rfl
theorem dksX6_text_10 : cX6_text.data.toList.drop 232 = dktX6_text_10 := dk_seg dksX6_text_9 24 rfl rfl
theorem dksX6_text_11 : cX6_text.data.toList.drop 254 = dktX6_text_11 := dk_seg dksX6_text_10 22 rfl rfl
theorem dX6_text_0 : decode cX6_text 0 = .ok (.aload_n 0, 1) := dk_42 (dk_at dksX6_text_0 0 rfl rfl)
theorem dX6_text_1 : decode cX6_text 1 = .ok (.iconst 0, 1) := dk_3 (dk_at dksX6_text_0 1 rfl rfl)
theorem dX6_text_2 : decode cX6_text 2 = .ok (.putfield 90, 3) := dk_181 0 90 (dk_at dksX6_text_0 2 rfl rfl)
theorem dX6_text_5 : decode cX6_text 5 = .ok (.aload_n 0, 1) := dk_42 (dk_at dksX6_text_0 5 rfl rfl)
theorem dX6_text_6 : decode cX6_text 6 = .ok (.iconst 0, 1) := dk_3 (dk_at dksX6_text_0 6 rfl rfl)
theorem dX6_text_7 : decode cX6_text 7 = .ok (.putfield 212, 3) := dk_181 0 212 (dk_at dksX6_text_0 7 rfl rfl)
theorem dX6_text_10 : decode cX6_text 10 = .ok (.aload_n 0, 1) := dk_42 (dk_at dksX6_text_0 10 rfl rfl)
theorem dX6_text_11 : decode cX6_text 11 = .ok (.iconst (-1), 1) := dk_2 (dk_at dksX6_text_0 11 rfl rfl)
theorem dX6_text_12 : decode cX6_text 12 = .ok (.putfield 46, 3) := dk_181 0 46 (dk_at dksX6_text_0 12 rfl rfl)
theorem dX6_text_15 : decode cX6_text 15 = .ok (.aload_n 0, 1) := dk_42 (dk_at dksX6_text_0 15 rfl rfl)
theorem dX6_text_16 : decode cX6_text 16 = .ok (.iload_n 1, 1) := dk_27 (dk_at dksX6_text_0 16 rfl rfl)
theorem dX6_text_17 : decode cX6_text 17 = .ok (.iconst 0, 1) := dk_3 (dk_at dksX6_text_0 17 rfl rfl)
theorem dX6_text_18 : decode cX6_text 18 = .ok (.iconst 5, 1) := dk_8 (dk_at dksX6_text_0 18 rfl rfl)
theorem dX6_text_19 : decode cX6_text 19 = .ok (.invokevirtual 109, 3) := dk_182 0 109 (dk_at dksX6_text_0 19 rfl rfl)
theorem dX6_text_22 : decode cX6_text 22 = .ok (.istore_n 2, 1) := dk_61 (dk_at dksX6_text_0 22 rfl rfl)
theorem dX6_text_23 : decode cX6_text 23 = .ok (.aload_n 0, 1) := dk_42 (dk_at dksX6_text_0 23 rfl rfl)
theorem dX6_text_24 : decode cX6_text 24 = .ok (.iload_n 1, 1) := dk_27 (dk_at dksX6_text_1 0 rfl rfl)
theorem dX6_text_25 : decode cX6_text 25 = .ok (.iconst 2, 1) := dk_5 (dk_at dksX6_text_1 1 rfl rfl)
theorem dX6_text_26 : decode cX6_text 26 = .ok (.if_icmp .ge 7, 3) := dk_162 0 7 (dk_at dksX6_text_1 2 rfl rfl)
theorem dX6_text_29 : decode cX6_text 29 = .ok (.iconst 1, 1) := dk_4 (dk_at dksX6_text_1 5 rfl rfl)
theorem dX6_text_30 : decode cX6_text 30 = .ok (.goto 4, 3) := dk_167 0 4 (dk_at dksX6_text_1 6 rfl rfl)
theorem dX6_text_33 : decode cX6_text 33 = .ok (.iconst 0, 1) := dk_3 (dk_at dksX6_text_1 9 rfl rfl)
theorem dX6_text_34 : decode cX6_text 34 = .ok (.putfield 149, 3) := dk_181 0 149 (dk_at dksX6_text_1 10 rfl rfl)
theorem dX6_text_37 : decode cX6_text 37 = .ok (.aload_n 0, 1) := dk_42 (dk_at dksX6_text_1 13 rfl rfl)
theorem dX6_text_38 : decode cX6_text 38 = .ok (.iconst 0, 1) := dk_3 (dk_at dksX6_text_1 14 rfl rfl)
theorem dX6_text_39 : decode cX6_text 39 = .ok (.putfield 128, 3) := dk_181 0 128 (dk_at dksX6_text_1 15 rfl rfl)
theorem dX6_text_42 : decode cX6_text 42 = .ok (.aload_n 0, 1) := dk_42 (dk_at dksX6_text_1 18 rfl rfl)
theorem dX6_text_43 : decode cX6_text 43 = .ok (.iconst 0, 1) := dk_3 (dk_at dksX6_text_1 19 rfl rfl)
theorem dX6_text_44 : decode cX6_text 44 = .ok (.putfield 165, 3) := dk_181 0 165 (dk_at dksX6_text_1 20 rfl rfl)
theorem dX6_text_47 : decode cX6_text 47 = .ok (.aload_n 0, 1) := dk_42 (dk_at dksX6_text_1 23 rfl rfl)
theorem dX6_text_48 : decode cX6_text 48 = .ok (.iconst 0, 1) := dk_3 (dk_at dksX6_text_2 0 rfl rfl)
theorem dX6_text_49 : decode cX6_text 49 = .ok (.putfield 194, 3) := dk_181 0 194 (dk_at dksX6_text_2 1 rfl rfl)
theorem dX6_text_52 : decode cX6_text 52 = .ok (.aload_n 0, 1) := dk_42 (dk_at dksX6_text_2 4 rfl rfl)
theorem dX6_text_53 : decode cX6_text 53 = .ok (.invokevirtual 175, 3) := dk_182 0 175 (dk_at dksX6_text_2 5 rfl rfl)
theorem dX6_text_56 : decode cX6_text 56 = .ok (.iload_n 2, 1) := dk_28 (dk_at dksX6_text_2 8 rfl rfl)
theorem dX6_text_57 : decode cX6_text 57 = .ok (.ifCond .eq 10, 3) := dk_153 0 10 (dk_at dksX6_text_2 9 rfl rfl)
theorem dX6_text_60 : decode cX6_text 60 = .ok (.aload_n 0, 1) := dk_42 (dk_at dksX6_text_2 12 rfl rfl)
theorem dX6_text_61 : decode cX6_text 61 = .ok (.invokevirtual 215, 3) := dk_182 0 215 (dk_at dksX6_text_2 13 rfl rfl)
theorem dX6_text_64 : decode cX6_text 64 = .ok (.goto 4, 3) := dk_167 0 4 (dk_at dksX6_text_2 16 rfl rfl)
theorem dX6_text_67 : decode cX6_text 67 = .ok (.iconst (-1), 1) := dk_2 (dk_at dksX6_text_2 19 rfl rfl)
theorem dX6_text_68 : decode cX6_text 68 = .ok (.istore_n 3, 1) := dk_62 (dk_at dksX6_text_2 20 rfl rfl)
theorem dX6_text_69 : decode cX6_text 69 = .ok (.aload_n 0, 1) := dk_42 (dk_at dksX6_text_2 21 rfl rfl)
theorem dX6_text_70 : decode cX6_text 70 = .ok (.iconst 0, 1) := dk_3 (dk_at dksX6_text_2 22 rfl rfl)
theorem dX6_text_71 : decode cX6_text 71 = .ok (.putfield 121, 3) := dk_181 0 121 (dk_at dksX6_text_3 0 rfl rfl)
theorem dX6_text_74 : decode cX6_text 74 = .ok (.iload_n 2, 1) := dk_28 (dk_at dksX6_text_3 3 rfl rfl)
theorem dX6_text_75 : decode cX6_text 75 = .ok (.ifCond .eq 24, 3) := dk_153 0 24 (dk_at dksX6_text_3 4 rfl rfl)
theorem dX6_text_78 : decode cX6_text 78 = .ok (.iload_n 3, 1) := dk_29 (dk_at dksX6_text_3 7 rfl rfl)
theorem dX6_text_79 : decode cX6_text 79 = .ok (.iconst (-1), 1) := dk_2 (dk_at dksX6_text_3 8 rfl rfl)
theorem dX6_text_80 : decode cX6_text 80 = .ok (.if_icmp .ne 19, 3) := dk_160 0 19 (dk_at dksX6_text_3 9 rfl rfl)
theorem dX6_text_83 : decode cX6_text 83 = .ok (.aload_n 0, 1) := dk_42 (dk_at dksX6_text_3 12 rfl rfl)
theorem dX6_text_84 : decode cX6_text 84 = .ok (.aload_n 0, 1) := dk_42 (dk_at dksX6_text_3 13 rfl rfl)
theorem dX6_text_85 : decode cX6_text 85 = .ok (.getfield 159, 3) := dk_180 0 159 (dk_at dksX6_text_3 14 rfl rfl)
theorem dX6_text_88 : decode cX6_text 88 = .ok (.putfield 212, 3) := dk_181 0 212 (dk_at dksX6_text_3 17 rfl rfl)
theorem dX6_text_91 : decode cX6_text 91 = .ok (.aload_n 0, 1) := dk_42 (dk_at dksX6_text_3 20 rfl rfl)
theorem dX6_text_92 : decode cX6_text 92 = .ok (.aload_n 0, 1) := dk_42 (dk_at dksX6_text_3 21 rfl rfl)
theorem dX6_text_93 : decode cX6_text 93 = .ok (.getfield 162, 3) := dk_180 0 162 (dk_at dksX6_text_4 0 rfl rfl)
theorem dX6_text_96 : decode cX6_text 96 = .ok (.putfield 46, 3) := dk_181 0 46 (dk_at dksX6_text_4 3 rfl rfl)
theorem dX6_text_99 : decode cX6_text 99 = .ok (.iload_n 3, 1) := dk_29 (dk_at dksX6_text_4 6 rfl rfl)
theorem dX6_text_100 : decode cX6_text 100 = .ok (.iconst (-1), 1) := dk_2 (dk_at dksX6_text_4 7 rfl rfl)
theorem dX6_text_101 : decode cX6_text 101 = .ok (.if_icmp .ne 5, 3) := dk_160 0 5 (dk_at dksX6_text_4 8 rfl rfl)
theorem dX6_text_104 : decode cX6_text 104 = .ok (.iconst (-1), 1) := dk_2 (dk_at dksX6_text_4 11 rfl rfl)
theorem dX6_text_105 : decode cX6_text 105 = .ok (.ireturn, 1) := dk_172 (dk_at dksX6_text_4 12 rfl rfl)
theorem dX6_text_106 : decode cX6_text 106 = .ok (.iconst 0, 1) := dk_3 (dk_at dksX6_text_4 13 rfl rfl)
theorem dX6_text_107 : decode cX6_text 107 = .ok (.istore 4, 2) := dk_54 4 (dk_at dksX6_text_4 14 rfl rfl)
theorem dX6_text_109 : decode cX6_text 109 = .ok (.iload 4, 2) := dk_21 4 (dk_at dksX6_text_4 16 rfl rfl)
theorem dX6_text_111 : decode cX6_text 111 = .ok (.iload_n 3, 1) := dk_29 (dk_at dksX6_text_4 18 rfl rfl)
theorem dX6_text_112 : decode cX6_text 112 = .ok (.if_icmp .ge 75, 3) := dk_162 0 75 (dk_at dksX6_text_4 19 rfl rfl)
theorem dX6_text_115 : decode cX6_text 115 = .ok (.aload_n 0, 1) := dk_42 (dk_at dksX6_text_4 22 rfl rfl)
theorem dX6_text_116 : decode cX6_text 116 = .ok (.getfield 28, 3) := dk_180 0 28 (dk_at dksX6_text_5 0 rfl rfl)
theorem dX6_text_119 : decode cX6_text 119 = .ok (.bipush 16, 2) := dk_16 16 (dk_at dksX6_text_5 3 rfl rfl)
theorem dX6_text_121 : decode cX6_text 121 = .ok (.iload_n 1, 1) := dk_27 (dk_at dksX6_text_5 5 rfl rfl)
theorem dX6_text_122 : decode cX6_text 122 = .ok (.imul, 1) := dk_104 (dk_at dksX6_text_5 6 rfl rfl)
theorem dX6_text_123 : decode cX6_text 123 = .ok (.iload 4, 2) := dk_21 4 (dk_at dksX6_text_5 7 rfl rfl)
theorem dX6_text_125 : decode cX6_text 125 = .ok (.iadd, 1) := dk_96 (dk_at dksX6_text_5 9 rfl rfl)
theorem dX6_text_126 : decode cX6_text 126 = .ok (.aload_n 0, 1) := dk_42 (dk_at dksX6_text_5 10 rfl rfl)
theorem dX6_text_127 : decode cX6_text 127 = .ok (.getfield 28, 3) := dk_180 0 28 (dk_at dksX6_text_5 11 rfl rfl)
theorem dX6_text_130 : decode cX6_text 130 = .ok (.bipush 96, 2) := dk_16 96 (dk_at dksX6_text_5 14 rfl rfl)
theorem dX6_text_132 : decode cX6_text 132 = .ok (.iload 4, 2) := dk_21 4 (dk_at dksX6_text_5 16 rfl rfl)
theorem dX6_text_134 : decode cX6_text 134 = .ok (.iadd, 1) := dk_96 (dk_at dksX6_text_5 18 rfl rfl)
theorem dX6_text_135 : decode cX6_text 135 = .ok (.iaload, 1) := dk_46 (dk_at dksX6_text_5 19 rfl rfl)
theorem dX6_text_136 : decode cX6_text 136 = .ok (.iastore, 1) := dk_79 (dk_at dksX6_text_5 20 rfl rfl)
theorem dX6_text_137 : decode cX6_text 137 = .ok (.aload_n 0, 1) := dk_42 (dk_at dksX6_text_5 21 rfl rfl)
theorem dX6_text_138 : decode cX6_text 138 = .ok (.getfield 31, 3) := dk_180 0 31 (dk_at dksX6_text_6 0 rfl rfl)
theorem dX6_text_141 : decode cX6_text 141 = .ok (.bipush 16, 2) := dk_16 16 (dk_at dksX6_text_6 3 rfl rfl)
theorem dX6_text_143 : decode cX6_text 143 = .ok (.iload_n 1, 1) := dk_27 (dk_at dksX6_text_6 5 rfl rfl)
theorem dX6_text_144 : decode cX6_text 144 = .ok (.imul, 1) := dk_104 (dk_at dksX6_text_6 6 rfl rfl)
theorem dX6_text_145 : decode cX6_text 145 = .ok (.iload 4, 2) := dk_21 4 (dk_at dksX6_text_6 7 rfl rfl)
theorem dX6_text_147 : decode cX6_text 147 = .ok (.iadd, 1) := dk_96 (dk_at dksX6_text_6 9 rfl rfl)
theorem dX6_text_148 : decode cX6_text 148 = .ok (.aload_n 0, 1) := dk_42 (dk_at dksX6_text_6 10 rfl rfl)
theorem dX6_text_149 : decode cX6_text 149 = .ok (.getfield 31, 3) := dk_180 0 31 (dk_at dksX6_text_6 11 rfl rfl)
theorem dX6_text_152 : decode cX6_text 152 = .ok (.bipush 96, 2) := dk_16 96 (dk_at dksX6_text_6 14 rfl rfl)
theorem dX6_text_154 : decode cX6_text 154 = .ok (.iload 4, 2) := dk_21 4 (dk_at dksX6_text_6 16 rfl rfl)
theorem dX6_text_156 : decode cX6_text 156 = .ok (.iadd, 1) := dk_96 (dk_at dksX6_text_6 18 rfl rfl)
theorem dX6_text_157 : decode cX6_text 157 = .ok (.iaload, 1) := dk_46 (dk_at dksX6_text_6 19 rfl rfl)
theorem dX6_text_158 : decode cX6_text 158 = .ok (.iastore, 1) := dk_79 (dk_at dksX6_text_6 20 rfl rfl)
theorem dX6_text_159 : decode cX6_text 159 = .ok (.aload_n 0, 1) := dk_42 (dk_at dksX6_text_6 21 rfl rfl)
theorem dX6_text_160 : decode cX6_text 160 = .ok (.getfield 34, 3) := dk_180 0 34 (dk_at dksX6_text_7 0 rfl rfl)
theorem dX6_text_163 : decode cX6_text 163 = .ok (.bipush 16, 2) := dk_16 16 (dk_at dksX6_text_7 3 rfl rfl)
theorem dX6_text_165 : decode cX6_text 165 = .ok (.iload_n 1, 1) := dk_27 (dk_at dksX6_text_7 5 rfl rfl)
theorem dX6_text_166 : decode cX6_text 166 = .ok (.imul, 1) := dk_104 (dk_at dksX6_text_7 6 rfl rfl)
theorem dX6_text_167 : decode cX6_text 167 = .ok (.iload 4, 2) := dk_21 4 (dk_at dksX6_text_7 7 rfl rfl)
theorem dX6_text_169 : decode cX6_text 169 = .ok (.iadd, 1) := dk_96 (dk_at dksX6_text_7 9 rfl rfl)
theorem dX6_text_170 : decode cX6_text 170 = .ok (.aload_n 0, 1) := dk_42 (dk_at dksX6_text_7 10 rfl rfl)
theorem dX6_text_171 : decode cX6_text 171 = .ok (.getfield 34, 3) := dk_180 0 34 (dk_at dksX6_text_7 11 rfl rfl)
theorem dX6_text_174 : decode cX6_text 174 = .ok (.bipush 96, 2) := dk_16 96 (dk_at dksX6_text_7 14 rfl rfl)
theorem dX6_text_176 : decode cX6_text 176 = .ok (.iload 4, 2) := dk_21 4 (dk_at dksX6_text_7 16 rfl rfl)
theorem dX6_text_178 : decode cX6_text 178 = .ok (.iadd, 1) := dk_96 (dk_at dksX6_text_7 18 rfl rfl)
theorem dX6_text_179 : decode cX6_text 179 = .ok (.iaload, 1) := dk_46 (dk_at dksX6_text_7 19 rfl rfl)
theorem dX6_text_180 : decode cX6_text 180 = .ok (.iastore, 1) := dk_79 (dk_at dksX6_text_7 20 rfl rfl)
theorem dX6_text_181 : decode cX6_text 181 = .ok (.iinc 4 1, 3) := dk_132 4 1 (dk_at dksX6_text_7 21 rfl rfl)
theorem dX6_text_184 : decode cX6_text 184 = .ok (.goto (-75), 3) := dk_167 255 181 (dk_at dksX6_text_8 0 rfl rfl)
theorem dX6_text_187 : decode cX6_text 187 = .ok (.iconst 0, 1) := dk_3 (dk_at dksX6_text_8 3 rfl rfl)
theorem dX6_text_188 : decode cX6_text 188 = .ok (.istore 4, 2) := dk_54 4 (dk_at dksX6_text_8 4 rfl rfl)
theorem dX6_text_190 : decode cX6_text 190 = .ok (.iload 4, 2) := dk_21 4 (dk_at dksX6_text_8 6 rfl rfl)
theorem dX6_text_192 : decode cX6_text 192 = .ok (.aload_n 0, 1) := dk_42 (dk_at dksX6_text_8 8 rfl rfl)
theorem dX6_text_193 : decode cX6_text 193 = .ok (.getfield 165, 3) := dk_180 0 165 (dk_at dksX6_text_8 9 rfl rfl)
theorem dX6_text_196 : decode cX6_text 196 = .ok (.if_icmp .ge 57, 3) := dk_162 0 57 (dk_at dksX6_text_8 12 rfl rfl)
theorem dX6_text_199 : decode cX6_text 199 = .ok (.aload_n 0, 1) := dk_42 (dk_at dksX6_text_8 15 rfl rfl)
theorem dX6_text_200 : decode cX6_text 200 = .ok (.getfield 37, 3) := dk_180 0 37 (dk_at dksX6_text_8 16 rfl rfl)
theorem dX6_text_203 : decode cX6_text 203 = .ok (.sipush 400, 3) := dk_17 1 144 (dk_at dksX6_text_8 19 rfl rfl)
theorem dX6_text_206 : decode cX6_text 206 = .ok (.iload_n 1, 1) := dk_27 (dk_at dksX6_text_8 22 rfl rfl)
theorem dX6_text_207 : decode cX6_text 207 = .ok (.imul, 1) := dk_104 (dk_at dksX6_text_8 23 rfl rfl)
theorem dX6_text_208 : decode cX6_text 208 = .ok (.iload 4, 2) := dk_21 4 (dk_at dksX6_text_9 0 rfl rfl)
theorem dX6_text_210 : decode cX6_text 210 = .ok (.iadd, 1) := dk_96 (dk_at dksX6_text_9 2 rfl rfl)
theorem dX6_text_211 : decode cX6_text 211 = .ok (.aload_n 0, 1) := dk_42 (dk_at dksX6_text_9 3 rfl rfl)
theorem dX6_text_212 : decode cX6_text 212 = .ok (.getfield 37, 3) := dk_180 0 37 (dk_at dksX6_text_9 4 rfl rfl)
theorem dX6_text_215 : decode cX6_text 215 = .ok (.sipush 2400, 3) := dk_17 9 96 (dk_at dksX6_text_9 7 rfl rfl)
theorem dX6_text_218 : decode cX6_text 218 = .ok (.iload 4, 2) := dk_21 4 (dk_at dksX6_text_9 10 rfl rfl)
theorem dX6_text_220 : decode cX6_text 220 = .ok (.iadd, 1) := dk_96 (dk_at dksX6_text_9 12 rfl rfl)
theorem dX6_text_221 : decode cX6_text 221 = .ok (.iaload, 1) := dk_46 (dk_at dksX6_text_9 13 rfl rfl)
theorem dX6_text_222 : decode cX6_text 222 = .ok (.iastore, 1) := dk_79 (dk_at dksX6_text_9 14 rfl rfl)
theorem dX6_text_223 : decode cX6_text 223 = .ok (.aload_n 0, 1) := dk_42 (dk_at dksX6_text_9 15 rfl rfl)
theorem dX6_text_224 : decode cX6_text 224 = .ok (.getfield 40, 3) := dk_180 0 40 (dk_at dksX6_text_9 16 rfl rfl)
theorem dX6_text_227 : decode cX6_text 227 = .ok (.sipush 400, 3) := dk_17 1 144 (dk_at dksX6_text_9 19 rfl rfl)
theorem dX6_text_230 : decode cX6_text 230 = .ok (.iload_n 1, 1) := dk_27 (dk_at dksX6_text_9 22 rfl rfl)
theorem dX6_text_231 : decode cX6_text 231 = .ok (.imul, 1) := dk_104 (dk_at dksX6_text_9 23 rfl rfl)
theorem dX6_text_232 : decode cX6_text 232 = .ok (.iload 4, 2) := dk_21 4 (dk_at dksX6_text_10 0 rfl rfl)
theorem dX6_text_234 : decode cX6_text 234 = .ok (.iadd, 1) := dk_96 (dk_at dksX6_text_10 2 rfl rfl)
theorem dX6_text_235 : decode cX6_text 235 = .ok (.aload_n 0, 1) := dk_42 (dk_at dksX6_text_10 3 rfl rfl)
theorem dX6_text_236 : decode cX6_text 236 = .ok (.getfield 40, 3) := dk_180 0 40 (dk_at dksX6_text_10 4 rfl rfl)
theorem dX6_text_239 : decode cX6_text 239 = .ok (.sipush 2400, 3) := dk_17 9 96 (dk_at dksX6_text_10 7 rfl rfl)
theorem dX6_text_242 : decode cX6_text 242 = .ok (.iload 4, 2) := dk_21 4 (dk_at dksX6_text_10 10 rfl rfl)
theorem dX6_text_244 : decode cX6_text 244 = .ok (.iadd, 1) := dk_96 (dk_at dksX6_text_10 12 rfl rfl)
theorem dX6_text_245 : decode cX6_text 245 = .ok (.iaload, 1) := dk_46 (dk_at dksX6_text_10 13 rfl rfl)
theorem dX6_text_246 : decode cX6_text 246 = .ok (.iastore, 1) := dk_79 (dk_at dksX6_text_10 14 rfl rfl)
theorem dX6_text_247 : decode cX6_text 247 = .ok (.iinc 4 1, 3) := dk_132 4 1 (dk_at dksX6_text_10 15 rfl rfl)
theorem dX6_text_250 : decode cX6_text 250 = .ok (.goto (-60), 3) := dk_167 255 196 (dk_at dksX6_text_10 18 rfl rfl)
theorem dX6_text_253 : decode cX6_text 253 = .ok (.aload_n 0, 1) := dk_42 (dk_at dksX6_text_10 21 rfl rfl)
theorem dX6_text_254 : decode cX6_text 254 = .ok (.getfield 25, 3) := dk_180 0 25 (dk_at dksX6_text_11 0 rfl rfl)
theorem dX6_text_257 : decode cX6_text 257 = .ok (.iload_n 1, 1) := dk_27 (dk_at dksX6_text_11 3 rfl rfl)
theorem dX6_text_258 : decode cX6_text 258 = .ok (.iload_n 3, 1) := dk_29 (dk_at dksX6_text_11 4 rfl rfl)
theorem dX6_text_259 : decode cX6_text 259 = .ok (.iastore, 1) := dk_79 (dk_at dksX6_text_11 5 rfl rfl)
theorem dX6_text_260 : decode cX6_text 260 = .ok (.iload_n 3, 1) := dk_29 (dk_at dksX6_text_11 6 rfl rfl)
theorem dX6_text_261 : decode cX6_text 261 = .ok (.ireturn, 1) := dk_172 (dk_at dksX6_text_11 7 rfl rfl)
abbrev cX6_reads : ByteArray := prog_17_method_25_code
def yX6_reads : MethodName := ⟨RX6, "reads", "()V"⟩
def dkwX6_reads_12 : List UInt8 := [182, 0, 156, 153, 0, 8, 42, 7, 181, 0, 137, 177]
abbrev dktX6_reads_12 : List UInt8 := dkwX6_reads_12 ++ []
def dkwX6_reads_11 : List UInt8 := [180, 0, 128, 42, 180, 0, 134, 100, 8, 162, 0, 24, 42, 6, 181, 0, 137, 167, 0, 16, 42, 27]
abbrev dktX6_reads_11 : List UInt8 := dkwX6_reads_11 ++ dktX6_reads_12
def dkwX6_reads_10 : List UInt8 := [167, 0, 7, 42, 180, 0, 140, 181, 0, 140, 42, 42, 180, 0, 128, 4, 96, 181, 0, 128, 167, 255, 191, 42]
abbrev dktX6_reads_10 : List UInt8 := dkwX6_reads_10 ++ dktX6_reads_11
def dkwX6_reads_9 : List UInt8 := [162, 0, 25, 16, 10, 42, 180, 0, 140, 104, 42, 42, 180, 0, 128, 182, 0, 131, 96, 16, 48, 100]
abbrev dktX6_reads_9 : List UInt8 := dkwX6_reads_9 ++ dktX6_reads_10
def dkwX6_reads_8 : List UInt8 := [42, 42, 180, 0, 128, 182, 0, 131, 182, 0, 153, 153, 0, 56, 42, 42, 180, 0, 140, 17, 39, 16]
abbrev dktX6_reads_8 : List UInt8 := dkwX6_reads_8 ++ dktX6_reads_9
def dkwX6_reads_7 : List UInt8 := [5, 181, 0, 137, 167, 0, 121, 42, 27, 182, 0, 153, 153, 0, 100, 42, 27, 16, 48, 100, 181, 0, 140, 42]
abbrev dktX6_reads_7 : List UInt8 := dkwX6_reads_7 ++ dktX6_reads_8
def dkwX6_reads_6 : List UInt8 := [180, 0, 140, 2, 159, 0, 145, 42, 180, 0, 149, 153, 0, 12, 42, 180, 0, 140, 16, 13, 163, 0, 129, 42]
abbrev dktX6_reads_6 : List UInt8 := dkwX6_reads_6 ++ dktX6_reads_7
def dkwX6_reads_5 : List UInt8 := [181, 0, 128, 167, 255, 231, 42, 42, 42, 180, 0, 134, 42, 180, 0, 128, 182, 0, 146, 181, 0, 140, 42]
abbrev dktX6_reads_5 : List UInt8 := dkwX6_reads_5 ++ dktX6_reads_6
def dkwX6_reads_4 : List UInt8 := [42, 42, 42, 180, 0, 128, 182, 0, 131, 182, 0, 143, 153, 0, 16, 42, 42, 180, 0, 128, 4, 96]
abbrev dktX6_reads_4 : List UInt8 := dkwX6_reads_4 ++ dktX6_reads_5
def dkwX6_reads_3 : List UInt8 := [177, 42, 42, 180, 0, 128, 4, 96, 181, 0, 128, 42, 27, 181, 0, 140, 42, 27, 182, 0, 143, 153, 0, 79]
abbrev dktX6_reads_3 : List UInt8 := dkwX6_reads_3 ++ dktX6_reads_4
def dkwX6_reads_2 : List UInt8 := [42, 4, 181, 0, 137, 42, 42, 180, 0, 128, 182, 0, 131, 60, 27, 2, 160, 0, 9, 42, 3, 181, 0, 137]
abbrev dktX6_reads_2 : List UInt8 := dkwX6_reads_2 ++ dktX6_reads_3
def dkwX6_reads_1 : List UInt8 := [160, 0, 16, 42, 42, 180, 0, 128, 4, 96, 181, 0, 128, 167, 255, 220, 42, 42, 180, 0, 128, 181, 0, 134]
abbrev dktX6_reads_1 : List UInt8 := dkwX6_reads_1 ++ dktX6_reads_2
def dkwX6_reads_0 : List UInt8 := [42, 42, 180, 0, 128, 182, 0, 131, 16, 32, 159, 0, 16, 42, 42, 180, 0, 128, 182, 0, 131, 16, 10]
abbrev dktX6_reads_0 : List UInt8 := dkwX6_reads_0 ++ dktX6_reads_1
theorem dksX6_reads_0 : cX6_reads.data.toList.drop 0 = dktX6_reads_0 := by decide +kernel
theorem dksX6_reads_1 : cX6_reads.data.toList.drop 23 = dktX6_reads_1 := dk_seg dksX6_reads_0 23 rfl rfl
theorem dksX6_reads_2 : cX6_reads.data.toList.drop 47 = dktX6_reads_2 := dk_seg dksX6_reads_1 24 rfl rfl
theorem dksX6_reads_3 : cX6_reads.data.toList.drop 71 = dktX6_reads_3 := dk_seg dksX6_reads_2 24 rfl rfl
theorem dksX6_reads_4 : cX6_reads.data.toList.drop 95 = dktX6_reads_4 := dk_seg dksX6_reads_3 24 rfl rfl
theorem dksX6_reads_5 : cX6_reads.data.toList.drop 117 = dktX6_reads_5 := dk_seg dksX6_reads_4 22 rfl rfl
theorem dksX6_reads_6 : cX6_reads.data.toList.drop 140 = dktX6_reads_6 := dk_seg dksX6_reads_5 23 rfl rfl
theorem dksX6_reads_7 : cX6_reads.data.toList.drop 164 = dktX6_reads_7 := dk_seg dksX6_reads_6 24 rfl rfl
theorem dksX6_reads_8 : cX6_reads.data.toList.drop 188 = dktX6_reads_8 := dk_seg dksX6_reads_7 24 rfl rfl
theorem dksX6_reads_9 : cX6_reads.data.toList.drop 210 = dktX6_reads_9 := dk_seg dksX6_reads_8 22 rfl rfl
theorem dksX6_reads_10 : cX6_reads.data.toList.drop 232 = dktX6_reads_10 := dk_seg dksX6_reads_9 22 rfl rfl
theorem dksX6_reads_11 : cX6_reads.data.toList.drop 256 = dktX6_reads_11 := dk_seg dksX6_reads_10 24 rfl rfl
theorem dksX6_reads_12 : cX6_reads.data.toList.drop 278 = dktX6_reads_12 := dk_seg dksX6_reads_11 22 rfl rfl
theorem dX6_reads_0 : decode cX6_reads 0 = .ok (.aload_n 0, 1) := dk_42 (dk_at dksX6_reads_0 0 rfl rfl)
theorem dX6_reads_1 : decode cX6_reads 1 = .ok (.aload_n 0, 1) := dk_42 (dk_at dksX6_reads_0 1 rfl rfl)
theorem dX6_reads_2 : decode cX6_reads 2 = .ok (.getfield 128, 3) := dk_180 0 128 (dk_at dksX6_reads_0 2 rfl rfl)
theorem dX6_reads_5 : decode cX6_reads 5 = .ok (.invokevirtual 131, 3) := dk_182 0 131 (dk_at dksX6_reads_0 5 rfl rfl)
theorem dX6_reads_8 : decode cX6_reads 8 = .ok (.bipush 32, 2) := dk_16 32 (dk_at dksX6_reads_0 8 rfl rfl)
theorem dX6_reads_10 : decode cX6_reads 10 = .ok (.if_icmp .eq 16, 3) := dk_159 0 16 (dk_at dksX6_reads_0 10 rfl rfl)
theorem dX6_reads_13 : decode cX6_reads 13 = .ok (.aload_n 0, 1) := dk_42 (dk_at dksX6_reads_0 13 rfl rfl)
theorem dX6_reads_14 : decode cX6_reads 14 = .ok (.aload_n 0, 1) := dk_42 (dk_at dksX6_reads_0 14 rfl rfl)
theorem dX6_reads_15 : decode cX6_reads 15 = .ok (.getfield 128, 3) := dk_180 0 128 (dk_at dksX6_reads_0 15 rfl rfl)
theorem dX6_reads_18 : decode cX6_reads 18 = .ok (.invokevirtual 131, 3) := dk_182 0 131 (dk_at dksX6_reads_0 18 rfl rfl)
theorem dX6_reads_21 : decode cX6_reads 21 = .ok (.bipush 10, 2) := dk_16 10 (dk_at dksX6_reads_0 21 rfl rfl)
theorem dX6_reads_23 : decode cX6_reads 23 = .ok (.if_icmp .ne 16, 3) := dk_160 0 16 (dk_at dksX6_reads_1 0 rfl rfl)
theorem dX6_reads_26 : decode cX6_reads 26 = .ok (.aload_n 0, 1) := dk_42 (dk_at dksX6_reads_1 3 rfl rfl)
theorem dX6_reads_27 : decode cX6_reads 27 = .ok (.aload_n 0, 1) := dk_42 (dk_at dksX6_reads_1 4 rfl rfl)
theorem dX6_reads_28 : decode cX6_reads 28 = .ok (.getfield 128, 3) := dk_180 0 128 (dk_at dksX6_reads_1 5 rfl rfl)
theorem dX6_reads_31 : decode cX6_reads 31 = .ok (.iconst 1, 1) := dk_4 (dk_at dksX6_reads_1 8 rfl rfl)
theorem dX6_reads_32 : decode cX6_reads 32 = .ok (.iadd, 1) := dk_96 (dk_at dksX6_reads_1 9 rfl rfl)
theorem dX6_reads_33 : decode cX6_reads 33 = .ok (.putfield 128, 3) := dk_181 0 128 (dk_at dksX6_reads_1 10 rfl rfl)
theorem dX6_reads_36 : decode cX6_reads 36 = .ok (.goto (-36), 3) := dk_167 255 220 (dk_at dksX6_reads_1 13 rfl rfl)
theorem dX6_reads_39 : decode cX6_reads 39 = .ok (.aload_n 0, 1) := dk_42 (dk_at dksX6_reads_1 16 rfl rfl)
theorem dX6_reads_40 : decode cX6_reads 40 = .ok (.aload_n 0, 1) := dk_42 (dk_at dksX6_reads_1 17 rfl rfl)
theorem dX6_reads_41 : decode cX6_reads 41 = .ok (.getfield 128, 3) := dk_180 0 128 (dk_at dksX6_reads_1 18 rfl rfl)
theorem dX6_reads_44 : decode cX6_reads 44 = .ok (.putfield 134, 3) := dk_181 0 134 (dk_at dksX6_reads_1 21 rfl rfl)
theorem dX6_reads_47 : decode cX6_reads 47 = .ok (.aload_n 0, 1) := dk_42 (dk_at dksX6_reads_2 0 rfl rfl)
theorem dX6_reads_48 : decode cX6_reads 48 = .ok (.iconst 1, 1) := dk_4 (dk_at dksX6_reads_2 1 rfl rfl)
theorem dX6_reads_49 : decode cX6_reads 49 = .ok (.putfield 137, 3) := dk_181 0 137 (dk_at dksX6_reads_2 2 rfl rfl)
theorem dX6_reads_52 : decode cX6_reads 52 = .ok (.aload_n 0, 1) := dk_42 (dk_at dksX6_reads_2 5 rfl rfl)
theorem dX6_reads_53 : decode cX6_reads 53 = .ok (.aload_n 0, 1) := dk_42 (dk_at dksX6_reads_2 6 rfl rfl)
theorem dX6_reads_54 : decode cX6_reads 54 = .ok (.getfield 128, 3) := dk_180 0 128 (dk_at dksX6_reads_2 7 rfl rfl)
theorem dX6_reads_57 : decode cX6_reads 57 = .ok (.invokevirtual 131, 3) := dk_182 0 131 (dk_at dksX6_reads_2 10 rfl rfl)
theorem dX6_reads_60 : decode cX6_reads 60 = .ok (.istore_n 1, 1) := dk_60 (dk_at dksX6_reads_2 13 rfl rfl)
theorem dX6_reads_61 : decode cX6_reads 61 = .ok (.iload_n 1, 1) := dk_27 (dk_at dksX6_reads_2 14 rfl rfl)
theorem dX6_reads_62 : decode cX6_reads 62 = .ok (.iconst (-1), 1) := dk_2 (dk_at dksX6_reads_2 15 rfl rfl)
theorem dX6_reads_63 : decode cX6_reads 63 = .ok (.if_icmp .ne 9, 3) := dk_160 0 9 (dk_at dksX6_reads_2 16 rfl rfl)
theorem dX6_reads_66 : decode cX6_reads 66 = .ok (.aload_n 0, 1) := dk_42 (dk_at dksX6_reads_2 19 rfl rfl)
theorem dX6_reads_67 : decode cX6_reads 67 = .ok (.iconst 0, 1) := dk_3 (dk_at dksX6_reads_2 20 rfl rfl)
theorem dX6_reads_68 : decode cX6_reads 68 = .ok (.putfield 137, 3) := dk_181 0 137 (dk_at dksX6_reads_2 21 rfl rfl)
theorem dX6_reads_71 : decode cX6_reads 71 = .ok (.return_, 1) := dk_177 (dk_at dksX6_reads_3 0 rfl rfl)
theorem dX6_reads_72 : decode cX6_reads 72 = .ok (.aload_n 0, 1) := dk_42 (dk_at dksX6_reads_3 1 rfl rfl)
theorem dX6_reads_73 : decode cX6_reads 73 = .ok (.aload_n 0, 1) := dk_42 (dk_at dksX6_reads_3 2 rfl rfl)
theorem dX6_reads_74 : decode cX6_reads 74 = .ok (.getfield 128, 3) := dk_180 0 128 (dk_at dksX6_reads_3 3 rfl rfl)
theorem dX6_reads_77 : decode cX6_reads 77 = .ok (.iconst 1, 1) := dk_4 (dk_at dksX6_reads_3 6 rfl rfl)
theorem dX6_reads_78 : decode cX6_reads 78 = .ok (.iadd, 1) := dk_96 (dk_at dksX6_reads_3 7 rfl rfl)
theorem dX6_reads_79 : decode cX6_reads 79 = .ok (.putfield 128, 3) := dk_181 0 128 (dk_at dksX6_reads_3 8 rfl rfl)
theorem dX6_reads_82 : decode cX6_reads 82 = .ok (.aload_n 0, 1) := dk_42 (dk_at dksX6_reads_3 11 rfl rfl)
theorem dX6_reads_83 : decode cX6_reads 83 = .ok (.iload_n 1, 1) := dk_27 (dk_at dksX6_reads_3 12 rfl rfl)
theorem dX6_reads_84 : decode cX6_reads 84 = .ok (.putfield 140, 3) := dk_181 0 140 (dk_at dksX6_reads_3 13 rfl rfl)
theorem dX6_reads_87 : decode cX6_reads 87 = .ok (.aload_n 0, 1) := dk_42 (dk_at dksX6_reads_3 16 rfl rfl)
theorem dX6_reads_88 : decode cX6_reads 88 = .ok (.iload_n 1, 1) := dk_27 (dk_at dksX6_reads_3 17 rfl rfl)
theorem dX6_reads_89 : decode cX6_reads 89 = .ok (.invokevirtual 143, 3) := dk_182 0 143 (dk_at dksX6_reads_3 18 rfl rfl)
theorem dX6_reads_92 : decode cX6_reads 92 = .ok (.ifCond .eq 79, 3) := dk_153 0 79 (dk_at dksX6_reads_3 21 rfl rfl)
theorem dX6_reads_95 : decode cX6_reads 95 = .ok (.aload_n 0, 1) := dk_42 (dk_at dksX6_reads_4 0 rfl rfl)
theorem dX6_reads_96 : decode cX6_reads 96 = .ok (.aload_n 0, 1) := dk_42 (dk_at dksX6_reads_4 1 rfl rfl)
theorem dX6_reads_97 : decode cX6_reads 97 = .ok (.aload_n 0, 1) := dk_42 (dk_at dksX6_reads_4 2 rfl rfl)
theorem dX6_reads_98 : decode cX6_reads 98 = .ok (.getfield 128, 3) := dk_180 0 128 (dk_at dksX6_reads_4 3 rfl rfl)
theorem dX6_reads_101 : decode cX6_reads 101 = .ok (.invokevirtual 131, 3) := dk_182 0 131 (dk_at dksX6_reads_4 6 rfl rfl)
theorem dX6_reads_104 : decode cX6_reads 104 = .ok (.invokevirtual 143, 3) := dk_182 0 143 (dk_at dksX6_reads_4 9 rfl rfl)
theorem dX6_reads_107 : decode cX6_reads 107 = .ok (.ifCond .eq 16, 3) := dk_153 0 16 (dk_at dksX6_reads_4 12 rfl rfl)
theorem dX6_reads_110 : decode cX6_reads 110 = .ok (.aload_n 0, 1) := dk_42 (dk_at dksX6_reads_4 15 rfl rfl)
theorem dX6_reads_111 : decode cX6_reads 111 = .ok (.aload_n 0, 1) := dk_42 (dk_at dksX6_reads_4 16 rfl rfl)
theorem dX6_reads_112 : decode cX6_reads 112 = .ok (.getfield 128, 3) := dk_180 0 128 (dk_at dksX6_reads_4 17 rfl rfl)
theorem dX6_reads_115 : decode cX6_reads 115 = .ok (.iconst 1, 1) := dk_4 (dk_at dksX6_reads_4 20 rfl rfl)
theorem dX6_reads_116 : decode cX6_reads 116 = .ok (.iadd, 1) := dk_96 (dk_at dksX6_reads_4 21 rfl rfl)
theorem dX6_reads_117 : decode cX6_reads 117 = .ok (.putfield 128, 3) := dk_181 0 128 (dk_at dksX6_reads_5 0 rfl rfl)
theorem dX6_reads_120 : decode cX6_reads 120 = .ok (.goto (-25), 3) := dk_167 255 231 (dk_at dksX6_reads_5 3 rfl rfl)
theorem dX6_reads_123 : decode cX6_reads 123 = .ok (.aload_n 0, 1) := dk_42 (dk_at dksX6_reads_5 6 rfl rfl)
theorem dX6_reads_124 : decode cX6_reads 124 = .ok (.aload_n 0, 1) := dk_42 (dk_at dksX6_reads_5 7 rfl rfl)
theorem dX6_reads_125 : decode cX6_reads 125 = .ok (.aload_n 0, 1) := dk_42 (dk_at dksX6_reads_5 8 rfl rfl)
theorem dX6_reads_126 : decode cX6_reads 126 = .ok (.getfield 134, 3) := dk_180 0 134 (dk_at dksX6_reads_5 9 rfl rfl)
theorem dX6_reads_129 : decode cX6_reads 129 = .ok (.aload_n 0, 1) := dk_42 (dk_at dksX6_reads_5 12 rfl rfl)
theorem dX6_reads_130 : decode cX6_reads 130 = .ok (.getfield 128, 3) := dk_180 0 128 (dk_at dksX6_reads_5 13 rfl rfl)
theorem dX6_reads_133 : decode cX6_reads 133 = .ok (.invokevirtual 146, 3) := dk_182 0 146 (dk_at dksX6_reads_5 16 rfl rfl)
theorem dX6_reads_136 : decode cX6_reads 136 = .ok (.putfield 140, 3) := dk_181 0 140 (dk_at dksX6_reads_5 19 rfl rfl)
theorem dX6_reads_139 : decode cX6_reads 139 = .ok (.aload_n 0, 1) := dk_42 (dk_at dksX6_reads_5 22 rfl rfl)
theorem dX6_reads_140 : decode cX6_reads 140 = .ok (.getfield 140, 3) := dk_180 0 140 (dk_at dksX6_reads_6 0 rfl rfl)
theorem dX6_reads_143 : decode cX6_reads 143 = .ok (.iconst (-1), 1) := dk_2 (dk_at dksX6_reads_6 3 rfl rfl)
theorem dX6_reads_144 : decode cX6_reads 144 = .ok (.if_icmp .eq 145, 3) := dk_159 0 145 (dk_at dksX6_reads_6 4 rfl rfl)
theorem dX6_reads_147 : decode cX6_reads 147 = .ok (.aload_n 0, 1) := dk_42 (dk_at dksX6_reads_6 7 rfl rfl)
theorem dX6_reads_148 : decode cX6_reads 148 = .ok (.getfield 149, 3) := dk_180 0 149 (dk_at dksX6_reads_6 8 rfl rfl)
theorem dX6_reads_151 : decode cX6_reads 151 = .ok (.ifCond .eq 12, 3) := dk_153 0 12 (dk_at dksX6_reads_6 11 rfl rfl)
theorem dX6_reads_154 : decode cX6_reads 154 = .ok (.aload_n 0, 1) := dk_42 (dk_at dksX6_reads_6 14 rfl rfl)
theorem dX6_reads_155 : decode cX6_reads 155 = .ok (.getfield 140, 3) := dk_180 0 140 (dk_at dksX6_reads_6 15 rfl rfl)
theorem dX6_reads_158 : decode cX6_reads 158 = .ok (.bipush 13, 2) := dk_16 13 (dk_at dksX6_reads_6 18 rfl rfl)
theorem dX6_reads_160 : decode cX6_reads 160 = .ok (.if_icmp .gt 129, 3) := dk_163 0 129 (dk_at dksX6_reads_6 20 rfl rfl)
theorem dX6_reads_163 : decode cX6_reads 163 = .ok (.aload_n 0, 1) := dk_42 (dk_at dksX6_reads_6 23 rfl rfl)
theorem dX6_reads_164 : decode cX6_reads 164 = .ok (.iconst 2, 1) := dk_5 (dk_at dksX6_reads_7 0 rfl rfl)
theorem dX6_reads_165 : decode cX6_reads 165 = .ok (.putfield 137, 3) := dk_181 0 137 (dk_at dksX6_reads_7 1 rfl rfl)
theorem dX6_reads_168 : decode cX6_reads 168 = .ok (.goto 121, 3) := dk_167 0 121 (dk_at dksX6_reads_7 4 rfl rfl)
theorem dX6_reads_171 : decode cX6_reads 171 = .ok (.aload_n 0, 1) := dk_42 (dk_at dksX6_reads_7 7 rfl rfl)
theorem dX6_reads_172 : decode cX6_reads 172 = .ok (.iload_n 1, 1) := dk_27 (dk_at dksX6_reads_7 8 rfl rfl)
theorem dX6_reads_173 : decode cX6_reads 173 = .ok (.invokevirtual 153, 3) := dk_182 0 153 (dk_at dksX6_reads_7 9 rfl rfl)
theorem dX6_reads_176 : decode cX6_reads 176 = .ok (.ifCond .eq 100, 3) := dk_153 0 100 (dk_at dksX6_reads_7 12 rfl rfl)
theorem dX6_reads_179 : decode cX6_reads 179 = .ok (.aload_n 0, 1) := dk_42 (dk_at dksX6_reads_7 15 rfl rfl)
theorem dX6_reads_180 : decode cX6_reads 180 = .ok (.iload_n 1, 1) := dk_27 (dk_at dksX6_reads_7 16 rfl rfl)
theorem dX6_reads_181 : decode cX6_reads 181 = .ok (.bipush 48, 2) := dk_16 48 (dk_at dksX6_reads_7 17 rfl rfl)
theorem dX6_reads_183 : decode cX6_reads 183 = .ok (.isub, 1) := dk_100 (dk_at dksX6_reads_7 19 rfl rfl)
theorem dX6_reads_184 : decode cX6_reads 184 = .ok (.putfield 140, 3) := dk_181 0 140 (dk_at dksX6_reads_7 20 rfl rfl)
theorem dX6_reads_187 : decode cX6_reads 187 = .ok (.aload_n 0, 1) := dk_42 (dk_at dksX6_reads_7 23 rfl rfl)
theorem dX6_reads_188 : decode cX6_reads 188 = .ok (.aload_n 0, 1) := dk_42 (dk_at dksX6_reads_8 0 rfl rfl)
theorem dX6_reads_189 : decode cX6_reads 189 = .ok (.aload_n 0, 1) := dk_42 (dk_at dksX6_reads_8 1 rfl rfl)
theorem dX6_reads_190 : decode cX6_reads 190 = .ok (.getfield 128, 3) := dk_180 0 128 (dk_at dksX6_reads_8 2 rfl rfl)
theorem dX6_reads_193 : decode cX6_reads 193 = .ok (.invokevirtual 131, 3) := dk_182 0 131 (dk_at dksX6_reads_8 5 rfl rfl)
theorem dX6_reads_196 : decode cX6_reads 196 = .ok (.invokevirtual 153, 3) := dk_182 0 153 (dk_at dksX6_reads_8 8 rfl rfl)
theorem dX6_reads_199 : decode cX6_reads 199 = .ok (.ifCond .eq 56, 3) := dk_153 0 56 (dk_at dksX6_reads_8 11 rfl rfl)
theorem dX6_reads_202 : decode cX6_reads 202 = .ok (.aload_n 0, 1) := dk_42 (dk_at dksX6_reads_8 14 rfl rfl)
theorem dX6_reads_203 : decode cX6_reads 203 = .ok (.aload_n 0, 1) := dk_42 (dk_at dksX6_reads_8 15 rfl rfl)
theorem dX6_reads_204 : decode cX6_reads 204 = .ok (.getfield 140, 3) := dk_180 0 140 (dk_at dksX6_reads_8 16 rfl rfl)
theorem dX6_reads_207 : decode cX6_reads 207 = .ok (.sipush 10000, 3) := dk_17 39 16 (dk_at dksX6_reads_8 19 rfl rfl)
theorem dX6_reads_210 : decode cX6_reads 210 = .ok (.if_icmp .ge 25, 3) := dk_162 0 25 (dk_at dksX6_reads_9 0 rfl rfl)
theorem dX6_reads_213 : decode cX6_reads 213 = .ok (.bipush 10, 2) := dk_16 10 (dk_at dksX6_reads_9 3 rfl rfl)
theorem dX6_reads_215 : decode cX6_reads 215 = .ok (.aload_n 0, 1) := dk_42 (dk_at dksX6_reads_9 5 rfl rfl)
theorem dX6_reads_216 : decode cX6_reads 216 = .ok (.getfield 140, 3) := dk_180 0 140 (dk_at dksX6_reads_9 6 rfl rfl)
theorem dX6_reads_219 : decode cX6_reads 219 = .ok (.imul, 1) := dk_104 (dk_at dksX6_reads_9 9 rfl rfl)
theorem dX6_reads_220 : decode cX6_reads 220 = .ok (.aload_n 0, 1) := dk_42 (dk_at dksX6_reads_9 10 rfl rfl)
theorem dX6_reads_221 : decode cX6_reads 221 = .ok (.aload_n 0, 1) := dk_42 (dk_at dksX6_reads_9 11 rfl rfl)
theorem dX6_reads_222 : decode cX6_reads 222 = .ok (.getfield 128, 3) := dk_180 0 128 (dk_at dksX6_reads_9 12 rfl rfl)
theorem dX6_reads_225 : decode cX6_reads 225 = .ok (.invokevirtual 131, 3) := dk_182 0 131 (dk_at dksX6_reads_9 15 rfl rfl)
theorem dX6_reads_228 : decode cX6_reads 228 = .ok (.iadd, 1) := dk_96 (dk_at dksX6_reads_9 18 rfl rfl)
theorem dX6_reads_229 : decode cX6_reads 229 = .ok (.bipush 48, 2) := dk_16 48 (dk_at dksX6_reads_9 19 rfl rfl)
theorem dX6_reads_231 : decode cX6_reads 231 = .ok (.isub, 1) := dk_100 (dk_at dksX6_reads_9 21 rfl rfl)
theorem dX6_reads_232 : decode cX6_reads 232 = .ok (.goto 7, 3) := dk_167 0 7 (dk_at dksX6_reads_10 0 rfl rfl)
theorem dX6_reads_235 : decode cX6_reads 235 = .ok (.aload_n 0, 1) := dk_42 (dk_at dksX6_reads_10 3 rfl rfl)
theorem dX6_reads_236 : decode cX6_reads 236 = .ok (.getfield 140, 3) := dk_180 0 140 (dk_at dksX6_reads_10 4 rfl rfl)
theorem dX6_reads_239 : decode cX6_reads 239 = .ok (.putfield 140, 3) := dk_181 0 140 (dk_at dksX6_reads_10 7 rfl rfl)
theorem dX6_reads_242 : decode cX6_reads 242 = .ok (.aload_n 0, 1) := dk_42 (dk_at dksX6_reads_10 10 rfl rfl)
theorem dX6_reads_243 : decode cX6_reads 243 = .ok (.aload_n 0, 1) := dk_42 (dk_at dksX6_reads_10 11 rfl rfl)
theorem dX6_reads_244 : decode cX6_reads 244 = .ok (.getfield 128, 3) := dk_180 0 128 (dk_at dksX6_reads_10 12 rfl rfl)
theorem dX6_reads_247 : decode cX6_reads 247 = .ok (.iconst 1, 1) := dk_4 (dk_at dksX6_reads_10 15 rfl rfl)
theorem dX6_reads_248 : decode cX6_reads 248 = .ok (.iadd, 1) := dk_96 (dk_at dksX6_reads_10 16 rfl rfl)
theorem dX6_reads_249 : decode cX6_reads 249 = .ok (.putfield 128, 3) := dk_181 0 128 (dk_at dksX6_reads_10 17 rfl rfl)
theorem dX6_reads_252 : decode cX6_reads 252 = .ok (.goto (-65), 3) := dk_167 255 191 (dk_at dksX6_reads_10 20 rfl rfl)
theorem dX6_reads_255 : decode cX6_reads 255 = .ok (.aload_n 0, 1) := dk_42 (dk_at dksX6_reads_10 23 rfl rfl)
theorem dX6_reads_256 : decode cX6_reads 256 = .ok (.getfield 128, 3) := dk_180 0 128 (dk_at dksX6_reads_11 0 rfl rfl)
theorem dX6_reads_259 : decode cX6_reads 259 = .ok (.aload_n 0, 1) := dk_42 (dk_at dksX6_reads_11 3 rfl rfl)
theorem dX6_reads_260 : decode cX6_reads 260 = .ok (.getfield 134, 3) := dk_180 0 134 (dk_at dksX6_reads_11 4 rfl rfl)
theorem dX6_reads_263 : decode cX6_reads 263 = .ok (.isub, 1) := dk_100 (dk_at dksX6_reads_11 7 rfl rfl)
theorem dX6_reads_264 : decode cX6_reads 264 = .ok (.iconst 5, 1) := dk_8 (dk_at dksX6_reads_11 8 rfl rfl)
theorem dX6_reads_265 : decode cX6_reads 265 = .ok (.if_icmp .ge 24, 3) := dk_162 0 24 (dk_at dksX6_reads_11 9 rfl rfl)
theorem dX6_reads_268 : decode cX6_reads 268 = .ok (.aload_n 0, 1) := dk_42 (dk_at dksX6_reads_11 12 rfl rfl)
theorem dX6_reads_269 : decode cX6_reads 269 = .ok (.iconst 3, 1) := dk_6 (dk_at dksX6_reads_11 13 rfl rfl)
theorem dX6_reads_270 : decode cX6_reads 270 = .ok (.putfield 137, 3) := dk_181 0 137 (dk_at dksX6_reads_11 14 rfl rfl)
theorem dX6_reads_273 : decode cX6_reads 273 = .ok (.goto 16, 3) := dk_167 0 16 (dk_at dksX6_reads_11 17 rfl rfl)
theorem dX6_reads_276 : decode cX6_reads 276 = .ok (.aload_n 0, 1) := dk_42 (dk_at dksX6_reads_11 20 rfl rfl)
theorem dX6_reads_277 : decode cX6_reads 277 = .ok (.iload_n 1, 1) := dk_27 (dk_at dksX6_reads_11 21 rfl rfl)
theorem dX6_reads_278 : decode cX6_reads 278 = .ok (.invokevirtual 156, 3) := dk_182 0 156 (dk_at dksX6_reads_12 0 rfl rfl)
theorem dX6_reads_281 : decode cX6_reads 281 = .ok (.ifCond .eq 8, 3) := dk_153 0 8 (dk_at dksX6_reads_12 3 rfl rfl)
theorem dX6_reads_284 : decode cX6_reads 284 = .ok (.aload_n 0, 1) := dk_42 (dk_at dksX6_reads_12 6 rfl rfl)
theorem dX6_reads_285 : decode cX6_reads 285 = .ok (.iconst 4, 1) := dk_7 (dk_at dksX6_reads_12 7 rfl rfl)
theorem dX6_reads_286 : decode cX6_reads 286 = .ok (.putfield 137, 3) := dk_181 0 137 (dk_at dksX6_reads_12 8 rfl rfl)
theorem dX6_reads_289 : decode cX6_reads 289 = .ok (.return_, 1) := dk_177 (dk_at dksX6_reads_12 11 rfl rfl)
abbrev cX6_raw : ByteArray := prog_17_method_20_code
def yX6_raw : MethodName := ⟨RX6, "raw", "(I)I"⟩
def dkwX6_raw_0 : List UInt8 := [27, 42, 180, 0, 121, 162, 0, 12, 42, 180, 0, 19, 27, 46, 167, 0, 4, 2, 172]
abbrev dktX6_raw_0 : List UInt8 := dkwX6_raw_0 ++ []
theorem dksX6_raw_0 : cX6_raw.data.toList.drop 0 = dktX6_raw_0 := by decide +kernel
theorem dX6_raw_0 : decode cX6_raw 0 = .ok (.iload_n 1, 1) := dk_27 (dk_at dksX6_raw_0 0 rfl rfl)
theorem dX6_raw_1 : decode cX6_raw 1 = .ok (.aload_n 0, 1) := dk_42 (dk_at dksX6_raw_0 1 rfl rfl)
theorem dX6_raw_2 : decode cX6_raw 2 = .ok (.getfield 121, 3) := dk_180 0 121 (dk_at dksX6_raw_0 2 rfl rfl)
theorem dX6_raw_5 : decode cX6_raw 5 = .ok (.if_icmp .ge 12, 3) := dk_162 0 12 (dk_at dksX6_raw_0 5 rfl rfl)
theorem dX6_raw_8 : decode cX6_raw 8 = .ok (.aload_n 0, 1) := dk_42 (dk_at dksX6_raw_0 8 rfl rfl)
theorem dX6_raw_9 : decode cX6_raw 9 = .ok (.getfield 19, 3) := dk_180 0 19 (dk_at dksX6_raw_0 9 rfl rfl)
theorem dX6_raw_12 : decode cX6_raw 12 = .ok (.iload_n 1, 1) := dk_27 (dk_at dksX6_raw_0 12 rfl rfl)
theorem dX6_raw_13 : decode cX6_raw 13 = .ok (.iaload, 1) := dk_46 (dk_at dksX6_raw_0 13 rfl rfl)
theorem dX6_raw_14 : decode cX6_raw 14 = .ok (.goto 4, 3) := dk_167 0 4 (dk_at dksX6_raw_0 14 rfl rfl)
theorem dX6_raw_17 : decode cX6_raw 17 = .ok (.iconst (-1), 1) := dk_2 (dk_at dksX6_raw_0 17 rfl rfl)
theorem dX6_raw_18 : decode cX6_raw 18 = .ok (.ireturn, 1) := dk_172 (dk_at dksX6_raw_0 18 rfl rfl)
abbrev cX6_isLetter : ByteArray := prog_17_method_21_code
def yX6_isLetter : MethodName := ⟨RX6, "isLetter", "(I)Z"⟩
def dkwX6_isLetter_1 : List UInt8 := [4, 167, 0, 4, 3, 172]
abbrev dktX6_isLetter_1 : List UInt8 := dkwX6_isLetter_1 ++ []
def dkwX6_isLetter_0 : List UInt8 := [42, 27, 16, 97, 16, 122, 182, 0, 109, 154, 0, 15, 42, 27, 16, 65, 16, 90, 182, 0, 109, 153, 0, 7]
abbrev dktX6_isLetter_0 : List UInt8 := dkwX6_isLetter_0 ++ dktX6_isLetter_1
theorem dksX6_isLetter_0 : cX6_isLetter.data.toList.drop 0 = dktX6_isLetter_0 := by decide +kernel
theorem dksX6_isLetter_1 : cX6_isLetter.data.toList.drop 24 = dktX6_isLetter_1 := dk_seg dksX6_isLetter_0 24 rfl rfl
theorem dX6_isLetter_0 : decode cX6_isLetter 0 = .ok (.aload_n 0, 1) := dk_42 (dk_at dksX6_isLetter_0 0 rfl rfl)
theorem dX6_isLetter_1 : decode cX6_isLetter 1 = .ok (.iload_n 1, 1) := dk_27 (dk_at dksX6_isLetter_0 1 rfl rfl)
theorem dX6_isLetter_2 : decode cX6_isLetter 2 = .ok (.bipush 97, 2) := dk_16 97 (dk_at dksX6_isLetter_0 2 rfl rfl)
theorem dX6_isLetter_4 : decode cX6_isLetter 4 = .ok (.bipush 122, 2) := dk_16 122 (dk_at dksX6_isLetter_0 4 rfl rfl)
theorem dX6_isLetter_6 : decode cX6_isLetter 6 = .ok (.invokevirtual 109, 3) := dk_182 0 109 (dk_at dksX6_isLetter_0 6 rfl rfl)
theorem dX6_isLetter_9 : decode cX6_isLetter 9 = .ok (.ifCond .ne 15, 3) := dk_154 0 15 (dk_at dksX6_isLetter_0 9 rfl rfl)
theorem dX6_isLetter_12 : decode cX6_isLetter 12 = .ok (.aload_n 0, 1) := dk_42 (dk_at dksX6_isLetter_0 12 rfl rfl)
theorem dX6_isLetter_13 : decode cX6_isLetter 13 = .ok (.iload_n 1, 1) := dk_27 (dk_at dksX6_isLetter_0 13 rfl rfl)
theorem dX6_isLetter_14 : decode cX6_isLetter 14 = .ok (.bipush 65, 2) := dk_16 65 (dk_at dksX6_isLetter_0 14 rfl rfl)
theorem dX6_isLetter_16 : decode cX6_isLetter 16 = .ok (.bipush 90, 2) := dk_16 90 (dk_at dksX6_isLetter_0 16 rfl rfl)
theorem dX6_isLetter_18 : decode cX6_isLetter 18 = .ok (.invokevirtual 109, 3) := dk_182 0 109 (dk_at dksX6_isLetter_0 18 rfl rfl)
theorem dX6_isLetter_21 : decode cX6_isLetter 21 = .ok (.ifCond .eq 7, 3) := dk_153 0 7 (dk_at dksX6_isLetter_0 21 rfl rfl)
theorem dX6_isLetter_24 : decode cX6_isLetter 24 = .ok (.iconst 1, 1) := dk_4 (dk_at dksX6_isLetter_1 0 rfl rfl)
theorem dX6_isLetter_25 : decode cX6_isLetter 25 = .ok (.goto 4, 3) := dk_167 0 4 (dk_at dksX6_isLetter_1 1 rfl rfl)
theorem dX6_isLetter_28 : decode cX6_isLetter 28 = .ok (.iconst 0, 1) := dk_3 (dk_at dksX6_isLetter_1 4 rfl rfl)
theorem dX6_isLetter_29 : decode cX6_isLetter 29 = .ok (.ireturn, 1) := dk_172 (dk_at dksX6_isLetter_1 5 rfl rfl)
abbrev cX6_wordAt : ByteArray := prog_17_method_24_code
def yX6_wordAt : MethodName := ⟨RX6, "wordAt", "(II)I"⟩
def dkwX6_wordAt_5 : List UInt8 := [172]
abbrev dktX6_wordAt_5 : List UInt8 := dkwX6_wordAt_5 ++ []
def dkwX6_wordAt_4 : List UInt8 := [180, 0, 22, 21, 4, 46, 16, 32, 159, 0, 12, 21, 4, 4, 96, 54, 4, 167, 255, 238, 167, 255, 147, 2]
abbrev dktX6_wordAt_4 : List UInt8 := dkwX6_wordAt_4 ++ dktX6_wordAt_5
def dkwX6_wordAt_3 : List UInt8 := [21, 4, 4, 96, 21, 5, 96, 46, 16, 32, 160, 0, 5, 29, 172, 21, 4, 4, 96, 54, 4, 42]
abbrev dktX6_wordAt_3 : List UInt8 := dkwX6_wordAt_3 ++ dktX6_wordAt_4
def dkwX6_wordAt_2 : List UInt8 := [160, 0, 12, 21, 5, 4, 96, 54, 5, 167, 255, 218, 27, 21, 5, 96, 28, 160, 0, 22, 42, 180, 0, 22]
abbrev dktX6_wordAt_2 : List UInt8 := dkwX6_wordAt_2 ++ dktX6_wordAt_3
def dkwX6_wordAt_1 : List UInt8 := [162, 0, 36, 42, 180, 0, 22, 21, 4, 4, 96, 21, 5, 96, 46, 42, 180, 0, 19, 27, 21, 5, 96, 46]
abbrev dktX6_wordAt_1 : List UInt8 := dkwX6_wordAt_1 ++ dktX6_wordAt_2
def dkwX6_wordAt_0 : List UInt8 := [2, 62, 3, 54, 4, 21, 4, 16, 121, 162, 0, 108, 3, 54, 5, 29, 4, 96, 62, 27, 21, 5, 96, 28]
abbrev dktX6_wordAt_0 : List UInt8 := dkwX6_wordAt_0 ++ dktX6_wordAt_1
theorem dksX6_wordAt_0 : cX6_wordAt.data.toList.drop 0 = dktX6_wordAt_0 := by decide +kernel
theorem dksX6_wordAt_1 : cX6_wordAt.data.toList.drop 24 = dktX6_wordAt_1 := dk_seg dksX6_wordAt_0 24 rfl rfl
theorem dksX6_wordAt_2 : cX6_wordAt.data.toList.drop 48 = dktX6_wordAt_2 := dk_seg dksX6_wordAt_1 24 rfl rfl
theorem dksX6_wordAt_3 : cX6_wordAt.data.toList.drop 72 = dktX6_wordAt_3 := dk_seg dksX6_wordAt_2 24 rfl rfl
theorem dksX6_wordAt_4 : cX6_wordAt.data.toList.drop 94 = dktX6_wordAt_4 := dk_seg dksX6_wordAt_3 22 rfl rfl
theorem dksX6_wordAt_5 : cX6_wordAt.data.toList.drop 118 = dktX6_wordAt_5 := dk_seg dksX6_wordAt_4 24 rfl rfl
theorem dX6_wordAt_0 : decode cX6_wordAt 0 = .ok (.iconst (-1), 1) := dk_2 (dk_at dksX6_wordAt_0 0 rfl rfl)
theorem dX6_wordAt_1 : decode cX6_wordAt 1 = .ok (.istore_n 3, 1) := dk_62 (dk_at dksX6_wordAt_0 1 rfl rfl)
theorem dX6_wordAt_2 : decode cX6_wordAt 2 = .ok (.iconst 0, 1) := dk_3 (dk_at dksX6_wordAt_0 2 rfl rfl)
theorem dX6_wordAt_3 : decode cX6_wordAt 3 = .ok (.istore 4, 2) := dk_54 4 (dk_at dksX6_wordAt_0 3 rfl rfl)
theorem dX6_wordAt_5 : decode cX6_wordAt 5 = .ok (.iload 4, 2) := dk_21 4 (dk_at dksX6_wordAt_0 5 rfl rfl)
theorem dX6_wordAt_7 : decode cX6_wordAt 7 = .ok (.bipush 121, 2) := dk_16 121 (dk_at dksX6_wordAt_0 7 rfl rfl)
theorem dX6_wordAt_9 : decode cX6_wordAt 9 = .ok (.if_icmp .ge 108, 3) := dk_162 0 108 (dk_at dksX6_wordAt_0 9 rfl rfl)
theorem dX6_wordAt_12 : decode cX6_wordAt 12 = .ok (.iconst 0, 1) := dk_3 (dk_at dksX6_wordAt_0 12 rfl rfl)
theorem dX6_wordAt_13 : decode cX6_wordAt 13 = .ok (.istore 5, 2) := dk_54 5 (dk_at dksX6_wordAt_0 13 rfl rfl)
theorem dX6_wordAt_15 : decode cX6_wordAt 15 = .ok (.iload_n 3, 1) := dk_29 (dk_at dksX6_wordAt_0 15 rfl rfl)
theorem dX6_wordAt_16 : decode cX6_wordAt 16 = .ok (.iconst 1, 1) := dk_4 (dk_at dksX6_wordAt_0 16 rfl rfl)
theorem dX6_wordAt_17 : decode cX6_wordAt 17 = .ok (.iadd, 1) := dk_96 (dk_at dksX6_wordAt_0 17 rfl rfl)
theorem dX6_wordAt_18 : decode cX6_wordAt 18 = .ok (.istore_n 3, 1) := dk_62 (dk_at dksX6_wordAt_0 18 rfl rfl)
theorem dX6_wordAt_19 : decode cX6_wordAt 19 = .ok (.iload_n 1, 1) := dk_27 (dk_at dksX6_wordAt_0 19 rfl rfl)
theorem dX6_wordAt_20 : decode cX6_wordAt 20 = .ok (.iload 5, 2) := dk_21 5 (dk_at dksX6_wordAt_0 20 rfl rfl)
theorem dX6_wordAt_22 : decode cX6_wordAt 22 = .ok (.iadd, 1) := dk_96 (dk_at dksX6_wordAt_0 22 rfl rfl)
theorem dX6_wordAt_23 : decode cX6_wordAt 23 = .ok (.iload_n 2, 1) := dk_28 (dk_at dksX6_wordAt_0 23 rfl rfl)
theorem dX6_wordAt_24 : decode cX6_wordAt 24 = .ok (.if_icmp .ge 36, 3) := dk_162 0 36 (dk_at dksX6_wordAt_1 0 rfl rfl)
theorem dX6_wordAt_27 : decode cX6_wordAt 27 = .ok (.aload_n 0, 1) := dk_42 (dk_at dksX6_wordAt_1 3 rfl rfl)
theorem dX6_wordAt_28 : decode cX6_wordAt 28 = .ok (.getfield 22, 3) := dk_180 0 22 (dk_at dksX6_wordAt_1 4 rfl rfl)
theorem dX6_wordAt_31 : decode cX6_wordAt 31 = .ok (.iload 4, 2) := dk_21 4 (dk_at dksX6_wordAt_1 7 rfl rfl)
theorem dX6_wordAt_33 : decode cX6_wordAt 33 = .ok (.iconst 1, 1) := dk_4 (dk_at dksX6_wordAt_1 9 rfl rfl)
theorem dX6_wordAt_34 : decode cX6_wordAt 34 = .ok (.iadd, 1) := dk_96 (dk_at dksX6_wordAt_1 10 rfl rfl)
theorem dX6_wordAt_35 : decode cX6_wordAt 35 = .ok (.iload 5, 2) := dk_21 5 (dk_at dksX6_wordAt_1 11 rfl rfl)
theorem dX6_wordAt_37 : decode cX6_wordAt 37 = .ok (.iadd, 1) := dk_96 (dk_at dksX6_wordAt_1 13 rfl rfl)
theorem dX6_wordAt_38 : decode cX6_wordAt 38 = .ok (.iaload, 1) := dk_46 (dk_at dksX6_wordAt_1 14 rfl rfl)
theorem dX6_wordAt_39 : decode cX6_wordAt 39 = .ok (.aload_n 0, 1) := dk_42 (dk_at dksX6_wordAt_1 15 rfl rfl)
theorem dX6_wordAt_40 : decode cX6_wordAt 40 = .ok (.getfield 19, 3) := dk_180 0 19 (dk_at dksX6_wordAt_1 16 rfl rfl)
theorem dX6_wordAt_43 : decode cX6_wordAt 43 = .ok (.iload_n 1, 1) := dk_27 (dk_at dksX6_wordAt_1 19 rfl rfl)
theorem dX6_wordAt_44 : decode cX6_wordAt 44 = .ok (.iload 5, 2) := dk_21 5 (dk_at dksX6_wordAt_1 20 rfl rfl)
theorem dX6_wordAt_46 : decode cX6_wordAt 46 = .ok (.iadd, 1) := dk_96 (dk_at dksX6_wordAt_1 22 rfl rfl)
theorem dX6_wordAt_47 : decode cX6_wordAt 47 = .ok (.iaload, 1) := dk_46 (dk_at dksX6_wordAt_1 23 rfl rfl)
theorem dX6_wordAt_48 : decode cX6_wordAt 48 = .ok (.if_icmp .ne 12, 3) := dk_160 0 12 (dk_at dksX6_wordAt_2 0 rfl rfl)
theorem dX6_wordAt_51 : decode cX6_wordAt 51 = .ok (.iload 5, 2) := dk_21 5 (dk_at dksX6_wordAt_2 3 rfl rfl)
theorem dX6_wordAt_53 : decode cX6_wordAt 53 = .ok (.iconst 1, 1) := dk_4 (dk_at dksX6_wordAt_2 5 rfl rfl)
theorem dX6_wordAt_54 : decode cX6_wordAt 54 = .ok (.iadd, 1) := dk_96 (dk_at dksX6_wordAt_2 6 rfl rfl)
theorem dX6_wordAt_55 : decode cX6_wordAt 55 = .ok (.istore 5, 2) := dk_54 5 (dk_at dksX6_wordAt_2 7 rfl rfl)
theorem dX6_wordAt_57 : decode cX6_wordAt 57 = .ok (.goto (-38), 3) := dk_167 255 218 (dk_at dksX6_wordAt_2 9 rfl rfl)
theorem dX6_wordAt_60 : decode cX6_wordAt 60 = .ok (.iload_n 1, 1) := dk_27 (dk_at dksX6_wordAt_2 12 rfl rfl)
theorem dX6_wordAt_61 : decode cX6_wordAt 61 = .ok (.iload 5, 2) := dk_21 5 (dk_at dksX6_wordAt_2 13 rfl rfl)
theorem dX6_wordAt_63 : decode cX6_wordAt 63 = .ok (.iadd, 1) := dk_96 (dk_at dksX6_wordAt_2 15 rfl rfl)
theorem dX6_wordAt_64 : decode cX6_wordAt 64 = .ok (.iload_n 2, 1) := dk_28 (dk_at dksX6_wordAt_2 16 rfl rfl)
theorem dX6_wordAt_65 : decode cX6_wordAt 65 = .ok (.if_icmp .ne 22, 3) := dk_160 0 22 (dk_at dksX6_wordAt_2 17 rfl rfl)
theorem dX6_wordAt_68 : decode cX6_wordAt 68 = .ok (.aload_n 0, 1) := dk_42 (dk_at dksX6_wordAt_2 20 rfl rfl)
theorem dX6_wordAt_69 : decode cX6_wordAt 69 = .ok (.getfield 22, 3) := dk_180 0 22 (dk_at dksX6_wordAt_2 21 rfl rfl)
theorem dX6_wordAt_72 : decode cX6_wordAt 72 = .ok (.iload 4, 2) := dk_21 4 (dk_at dksX6_wordAt_3 0 rfl rfl)
theorem dX6_wordAt_74 : decode cX6_wordAt 74 = .ok (.iconst 1, 1) := dk_4 (dk_at dksX6_wordAt_3 2 rfl rfl)
theorem dX6_wordAt_75 : decode cX6_wordAt 75 = .ok (.iadd, 1) := dk_96 (dk_at dksX6_wordAt_3 3 rfl rfl)
theorem dX6_wordAt_76 : decode cX6_wordAt 76 = .ok (.iload 5, 2) := dk_21 5 (dk_at dksX6_wordAt_3 4 rfl rfl)
theorem dX6_wordAt_78 : decode cX6_wordAt 78 = .ok (.iadd, 1) := dk_96 (dk_at dksX6_wordAt_3 6 rfl rfl)
theorem dX6_wordAt_79 : decode cX6_wordAt 79 = .ok (.iaload, 1) := dk_46 (dk_at dksX6_wordAt_3 7 rfl rfl)
theorem dX6_wordAt_80 : decode cX6_wordAt 80 = .ok (.bipush 32, 2) := dk_16 32 (dk_at dksX6_wordAt_3 8 rfl rfl)
theorem dX6_wordAt_82 : decode cX6_wordAt 82 = .ok (.if_icmp .ne 5, 3) := dk_160 0 5 (dk_at dksX6_wordAt_3 10 rfl rfl)
theorem dX6_wordAt_85 : decode cX6_wordAt 85 = .ok (.iload_n 3, 1) := dk_29 (dk_at dksX6_wordAt_3 13 rfl rfl)
theorem dX6_wordAt_86 : decode cX6_wordAt 86 = .ok (.ireturn, 1) := dk_172 (dk_at dksX6_wordAt_3 14 rfl rfl)
theorem dX6_wordAt_87 : decode cX6_wordAt 87 = .ok (.iload 4, 2) := dk_21 4 (dk_at dksX6_wordAt_3 15 rfl rfl)
theorem dX6_wordAt_89 : decode cX6_wordAt 89 = .ok (.iconst 1, 1) := dk_4 (dk_at dksX6_wordAt_3 17 rfl rfl)
theorem dX6_wordAt_90 : decode cX6_wordAt 90 = .ok (.iadd, 1) := dk_96 (dk_at dksX6_wordAt_3 18 rfl rfl)
theorem dX6_wordAt_91 : decode cX6_wordAt 91 = .ok (.istore 4, 2) := dk_54 4 (dk_at dksX6_wordAt_3 19 rfl rfl)
theorem dX6_wordAt_93 : decode cX6_wordAt 93 = .ok (.aload_n 0, 1) := dk_42 (dk_at dksX6_wordAt_3 21 rfl rfl)
theorem dX6_wordAt_94 : decode cX6_wordAt 94 = .ok (.getfield 22, 3) := dk_180 0 22 (dk_at dksX6_wordAt_4 0 rfl rfl)
theorem dX6_wordAt_97 : decode cX6_wordAt 97 = .ok (.iload 4, 2) := dk_21 4 (dk_at dksX6_wordAt_4 3 rfl rfl)
theorem dX6_wordAt_99 : decode cX6_wordAt 99 = .ok (.iaload, 1) := dk_46 (dk_at dksX6_wordAt_4 5 rfl rfl)
theorem dX6_wordAt_100 : decode cX6_wordAt 100 = .ok (.bipush 32, 2) := dk_16 32 (dk_at dksX6_wordAt_4 6 rfl rfl)
theorem dX6_wordAt_102 : decode cX6_wordAt 102 = .ok (.if_icmp .eq 12, 3) := dk_159 0 12 (dk_at dksX6_wordAt_4 8 rfl rfl)
theorem dX6_wordAt_105 : decode cX6_wordAt 105 = .ok (.iload 4, 2) := dk_21 4 (dk_at dksX6_wordAt_4 11 rfl rfl)
theorem dX6_wordAt_107 : decode cX6_wordAt 107 = .ok (.iconst 1, 1) := dk_4 (dk_at dksX6_wordAt_4 13 rfl rfl)
theorem dX6_wordAt_108 : decode cX6_wordAt 108 = .ok (.iadd, 1) := dk_96 (dk_at dksX6_wordAt_4 14 rfl rfl)
theorem dX6_wordAt_109 : decode cX6_wordAt 109 = .ok (.istore 4, 2) := dk_54 4 (dk_at dksX6_wordAt_4 15 rfl rfl)
theorem dX6_wordAt_111 : decode cX6_wordAt 111 = .ok (.goto (-18), 3) := dk_167 255 238 (dk_at dksX6_wordAt_4 17 rfl rfl)
theorem dX6_wordAt_114 : decode cX6_wordAt 114 = .ok (.goto (-109), 3) := dk_167 255 147 (dk_at dksX6_wordAt_4 20 rfl rfl)
theorem dX6_wordAt_117 : decode cX6_wordAt 117 = .ok (.iconst (-1), 1) := dk_2 (dk_at dksX6_wordAt_4 23 rfl rfl)
theorem dX6_wordAt_118 : decode cX6_wordAt 118 = .ok (.ireturn, 1) := dk_172 (dk_at dksX6_wordAt_5 0 rfl rfl)
abbrev cX6_isDigit : ByteArray := prog_17_method_22_code
def yX6_isDigit : MethodName := ⟨RX6, "isDigit", "(I)Z"⟩
def dkwX6_isDigit_0 : List UInt8 := [42, 27, 16, 48, 16, 57, 182, 0, 109, 172]
abbrev dktX6_isDigit_0 : List UInt8 := dkwX6_isDigit_0 ++ []
theorem dksX6_isDigit_0 : cX6_isDigit.data.toList.drop 0 = dktX6_isDigit_0 := by decide +kernel
theorem dX6_isDigit_0 : decode cX6_isDigit 0 = .ok (.aload_n 0, 1) := dk_42 (dk_at dksX6_isDigit_0 0 rfl rfl)
theorem dX6_isDigit_1 : decode cX6_isDigit 1 = .ok (.iload_n 1, 1) := dk_27 (dk_at dksX6_isDigit_0 1 rfl rfl)
theorem dX6_isDigit_2 : decode cX6_isDigit 2 = .ok (.bipush 48, 2) := dk_16 48 (dk_at dksX6_isDigit_0 2 rfl rfl)
theorem dX6_isDigit_4 : decode cX6_isDigit 4 = .ok (.bipush 57, 2) := dk_16 57 (dk_at dksX6_isDigit_0 4 rfl rfl)
theorem dX6_isDigit_6 : decode cX6_isDigit 6 = .ok (.invokevirtual 109, 3) := dk_182 0 109 (dk_at dksX6_isDigit_0 6 rfl rfl)
theorem dX6_isDigit_9 : decode cX6_isDigit 9 = .ok (.ireturn, 1) := dk_172 (dk_at dksX6_isDigit_0 9 rfl rfl)
abbrev cX6_isMarkSign : ByteArray := prog_17_method_23_code
def yX6_isMarkSign : MethodName := ⟨RX6, "isMarkSign", "(I)Z"⟩
def dkwX6_isMarkSign_2 : List UInt8 := [27, 16, 61, 159, 0, 9, 27, 16, 62, 160, 0, 7, 4, 167, 0, 4, 3, 172]
abbrev dktX6_isMarkSign_2 : List UInt8 := dkwX6_isMarkSign_2 ++ []
def dkwX6_isMarkSign_1 : List UInt8 := [27, 16, 47, 159, 0, 33, 27, 16, 40, 159, 0, 27, 27, 16, 41, 159, 0, 21, 27, 16, 60, 159, 0, 15]
abbrev dktX6_isMarkSign_1 : List UInt8 := dkwX6_isMarkSign_1 ++ dktX6_isMarkSign_2
def dkwX6_isMarkSign_0 : List UInt8 := [27, 16, 59, 159, 0, 57, 27, 16, 43, 159, 0, 51, 27, 16, 45, 159, 0, 45, 27, 16, 42, 159, 0, 39]
abbrev dktX6_isMarkSign_0 : List UInt8 := dkwX6_isMarkSign_0 ++ dktX6_isMarkSign_1
theorem dksX6_isMarkSign_0 : cX6_isMarkSign.data.toList.drop 0 = dktX6_isMarkSign_0 := by decide +kernel
theorem dksX6_isMarkSign_1 : cX6_isMarkSign.data.toList.drop 24 = dktX6_isMarkSign_1 := dk_seg dksX6_isMarkSign_0 24 rfl rfl
theorem dksX6_isMarkSign_2 : cX6_isMarkSign.data.toList.drop 48 = dktX6_isMarkSign_2 := dk_seg dksX6_isMarkSign_1 24 rfl rfl
theorem dX6_isMarkSign_0 : decode cX6_isMarkSign 0 = .ok (.iload_n 1, 1) := dk_27 (dk_at dksX6_isMarkSign_0 0 rfl rfl)
theorem dX6_isMarkSign_1 : decode cX6_isMarkSign 1 = .ok (.bipush 59, 2) := dk_16 59 (dk_at dksX6_isMarkSign_0 1 rfl rfl)
theorem dX6_isMarkSign_3 : decode cX6_isMarkSign 3 = .ok (.if_icmp .eq 57, 3) := dk_159 0 57 (dk_at dksX6_isMarkSign_0 3 rfl rfl)
theorem dX6_isMarkSign_6 : decode cX6_isMarkSign 6 = .ok (.iload_n 1, 1) := dk_27 (dk_at dksX6_isMarkSign_0 6 rfl rfl)
theorem dX6_isMarkSign_7 : decode cX6_isMarkSign 7 = .ok (.bipush 43, 2) := dk_16 43 (dk_at dksX6_isMarkSign_0 7 rfl rfl)
theorem dX6_isMarkSign_9 : decode cX6_isMarkSign 9 = .ok (.if_icmp .eq 51, 3) := dk_159 0 51 (dk_at dksX6_isMarkSign_0 9 rfl rfl)
theorem dX6_isMarkSign_12 : decode cX6_isMarkSign 12 = .ok (.iload_n 1, 1) := dk_27 (dk_at dksX6_isMarkSign_0 12 rfl rfl)
theorem dX6_isMarkSign_13 : decode cX6_isMarkSign 13 = .ok (.bipush 45, 2) := dk_16 45 (dk_at dksX6_isMarkSign_0 13 rfl rfl)
theorem dX6_isMarkSign_15 : decode cX6_isMarkSign 15 = .ok (.if_icmp .eq 45, 3) := dk_159 0 45 (dk_at dksX6_isMarkSign_0 15 rfl rfl)
theorem dX6_isMarkSign_18 : decode cX6_isMarkSign 18 = .ok (.iload_n 1, 1) := dk_27 (dk_at dksX6_isMarkSign_0 18 rfl rfl)
theorem dX6_isMarkSign_19 : decode cX6_isMarkSign 19 = .ok (.bipush 42, 2) := dk_16 42 (dk_at dksX6_isMarkSign_0 19 rfl rfl)
theorem dX6_isMarkSign_21 : decode cX6_isMarkSign 21 = .ok (.if_icmp .eq 39, 3) := dk_159 0 39 (dk_at dksX6_isMarkSign_0 21 rfl rfl)
theorem dX6_isMarkSign_24 : decode cX6_isMarkSign 24 = .ok (.iload_n 1, 1) := dk_27 (dk_at dksX6_isMarkSign_1 0 rfl rfl)
theorem dX6_isMarkSign_25 : decode cX6_isMarkSign 25 = .ok (.bipush 47, 2) := dk_16 47 (dk_at dksX6_isMarkSign_1 1 rfl rfl)
theorem dX6_isMarkSign_27 : decode cX6_isMarkSign 27 = .ok (.if_icmp .eq 33, 3) := dk_159 0 33 (dk_at dksX6_isMarkSign_1 3 rfl rfl)
theorem dX6_isMarkSign_30 : decode cX6_isMarkSign 30 = .ok (.iload_n 1, 1) := dk_27 (dk_at dksX6_isMarkSign_1 6 rfl rfl)
theorem dX6_isMarkSign_31 : decode cX6_isMarkSign 31 = .ok (.bipush 40, 2) := dk_16 40 (dk_at dksX6_isMarkSign_1 7 rfl rfl)
theorem dX6_isMarkSign_33 : decode cX6_isMarkSign 33 = .ok (.if_icmp .eq 27, 3) := dk_159 0 27 (dk_at dksX6_isMarkSign_1 9 rfl rfl)
theorem dX6_isMarkSign_36 : decode cX6_isMarkSign 36 = .ok (.iload_n 1, 1) := dk_27 (dk_at dksX6_isMarkSign_1 12 rfl rfl)
theorem dX6_isMarkSign_37 : decode cX6_isMarkSign 37 = .ok (.bipush 41, 2) := dk_16 41 (dk_at dksX6_isMarkSign_1 13 rfl rfl)
theorem dX6_isMarkSign_39 : decode cX6_isMarkSign 39 = .ok (.if_icmp .eq 21, 3) := dk_159 0 21 (dk_at dksX6_isMarkSign_1 15 rfl rfl)
theorem dX6_isMarkSign_42 : decode cX6_isMarkSign 42 = .ok (.iload_n 1, 1) := dk_27 (dk_at dksX6_isMarkSign_1 18 rfl rfl)
theorem dX6_isMarkSign_43 : decode cX6_isMarkSign 43 = .ok (.bipush 60, 2) := dk_16 60 (dk_at dksX6_isMarkSign_1 19 rfl rfl)
theorem dX6_isMarkSign_45 : decode cX6_isMarkSign 45 = .ok (.if_icmp .eq 15, 3) := dk_159 0 15 (dk_at dksX6_isMarkSign_1 21 rfl rfl)
theorem dX6_isMarkSign_48 : decode cX6_isMarkSign 48 = .ok (.iload_n 1, 1) := dk_27 (dk_at dksX6_isMarkSign_2 0 rfl rfl)
theorem dX6_isMarkSign_49 : decode cX6_isMarkSign 49 = .ok (.bipush 61, 2) := dk_16 61 (dk_at dksX6_isMarkSign_2 1 rfl rfl)
theorem dX6_isMarkSign_51 : decode cX6_isMarkSign 51 = .ok (.if_icmp .eq 9, 3) := dk_159 0 9 (dk_at dksX6_isMarkSign_2 3 rfl rfl)
theorem dX6_isMarkSign_54 : decode cX6_isMarkSign 54 = .ok (.iload_n 1, 1) := dk_27 (dk_at dksX6_isMarkSign_2 6 rfl rfl)
theorem dX6_isMarkSign_55 : decode cX6_isMarkSign 55 = .ok (.bipush 62, 2) := dk_16 62 (dk_at dksX6_isMarkSign_2 7 rfl rfl)
theorem dX6_isMarkSign_57 : decode cX6_isMarkSign 57 = .ok (.if_icmp .ne 7, 3) := dk_160 0 7 (dk_at dksX6_isMarkSign_2 9 rfl rfl)
theorem dX6_isMarkSign_60 : decode cX6_isMarkSign 60 = .ok (.iconst 1, 1) := dk_4 (dk_at dksX6_isMarkSign_2 12 rfl rfl)
theorem dX6_isMarkSign_61 : decode cX6_isMarkSign 61 = .ok (.goto 4, 3) := dk_167 0 4 (dk_at dksX6_isMarkSign_2 13 rfl rfl)
theorem dX6_isMarkSign_64 : decode cX6_isMarkSign 64 = .ok (.iconst 0, 1) := dk_3 (dk_at dksX6_isMarkSign_2 16 rfl rfl)
theorem dX6_isMarkSign_65 : decode cX6_isMarkSign 65 = .ok (.ireturn, 1) := dk_172 (dk_at dksX6_isMarkSign_2 17 rfl rfl)
abbrev cX6_readText : ByteArray := prog_17_method_37_code
def yX6_readText : MethodName := ⟨RX6, "readText", "()I"⟩
def dkwX6_readText_6 : List UInt8 := [167, 255, 120, 42, 180, 0, 137, 154, 0, 7, 27, 167, 0, 8, 42, 4, 182, 0, 168, 172]
abbrev dktX6_readText_6 : List UInt8 := dkwX6_readText_6 ++ []
def dkwX6_readText_5 : List UInt8 := [42, 16, 59, 182, 0, 182, 154, 0, 9, 42, 4, 182, 0, 168, 172, 42, 182, 0, 175, 27, 4, 96, 60]
abbrev dktX6_readText_5 : List UInt8 := dkwX6_readText_5 ++ dktX6_readText_6
def dkwX6_readText_4 : List UInt8 := [180, 0, 165, 79, 42, 182, 0, 209, 2, 160, 0, 5, 2, 172, 42, 180, 0, 34, 28, 42, 180, 0, 165, 79]
abbrev dktX6_readText_4 : List UInt8 := dkwX6_readText_4 ++ dktX6_readText_5
def dkwX6_readText_3 : List UInt8 := [6, 182, 0, 197, 154, 0, 9, 42, 4, 182, 0, 168, 172, 42, 182, 0, 175, 42, 180, 0, 31, 28, 42]
abbrev dktX6_readText_3 : List UInt8 := dkwX6_readText_3 ++ dktX6_readText_4
def dkwX6_readText_2 : List UInt8 := [182, 0, 168, 172, 16, 96, 27, 96, 61, 42, 180, 0, 28, 28, 42, 180, 0, 140, 79, 42, 182, 0, 175, 42]
abbrev dktX6_readText_2 : List UInt8 := dkwX6_readText_2 ++ dktX6_readText_3
def dkwX6_readText_1 : List UInt8 := [182, 0, 197, 154, 0, 11, 42, 5, 182, 0, 197, 153, 0, 108, 27, 16, 16, 160, 0, 9, 42, 6]
abbrev dktX6_readText_1 : List UInt8 := dkwX6_readText_1 ++ dktX6_readText_2
def dkwX6_readText_0 : List UInt8 := [3, 60, 42, 180, 0, 149, 153, 0, 14, 42, 3, 182, 0, 197, 153, 0, 127, 167, 0, 19, 42, 4]
abbrev dktX6_readText_0 : List UInt8 := dkwX6_readText_0 ++ dktX6_readText_1
theorem dksX6_readText_0 : cX6_readText.data.toList.drop 0 = dktX6_readText_0 := by decide +kernel
theorem dksX6_readText_1 : cX6_readText.data.toList.drop 22 = dktX6_readText_1 := dk_seg dksX6_readText_0 22 rfl rfl
theorem dksX6_readText_2 : cX6_readText.data.toList.drop 44 = dktX6_readText_2 := dk_seg dksX6_readText_1 22 rfl rfl
theorem dksX6_readText_3 : cX6_readText.data.toList.drop 68 = dktX6_readText_3 := dk_seg dksX6_readText_2 24 rfl rfl
theorem dksX6_readText_4 : cX6_readText.data.toList.drop 91 = dktX6_readText_4 := dk_seg dksX6_readText_3 23 rfl rfl
theorem dksX6_readText_5 : cX6_readText.data.toList.drop 115 = dktX6_readText_5 := dk_seg dksX6_readText_4 24 rfl rfl
theorem dksX6_readText_6 : cX6_readText.data.toList.drop 138 = dktX6_readText_6 := dk_seg dksX6_readText_5 23 rfl rfl
theorem dX6_readText_0 : decode cX6_readText 0 = .ok (.iconst 0, 1) := dk_3 (dk_at dksX6_readText_0 0 rfl rfl)
theorem dX6_readText_1 : decode cX6_readText 1 = .ok (.istore_n 1, 1) := dk_60 (dk_at dksX6_readText_0 1 rfl rfl)
theorem dX6_readText_2 : decode cX6_readText 2 = .ok (.aload_n 0, 1) := dk_42 (dk_at dksX6_readText_0 2 rfl rfl)
theorem dX6_readText_3 : decode cX6_readText 3 = .ok (.getfield 149, 3) := dk_180 0 149 (dk_at dksX6_readText_0 3 rfl rfl)
theorem dX6_readText_6 : decode cX6_readText 6 = .ok (.ifCond .eq 14, 3) := dk_153 0 14 (dk_at dksX6_readText_0 6 rfl rfl)
theorem dX6_readText_9 : decode cX6_readText 9 = .ok (.aload_n 0, 1) := dk_42 (dk_at dksX6_readText_0 9 rfl rfl)
theorem dX6_readText_10 : decode cX6_readText 10 = .ok (.iconst 0, 1) := dk_3 (dk_at dksX6_readText_0 10 rfl rfl)
theorem dX6_readText_11 : decode cX6_readText 11 = .ok (.invokevirtual 197, 3) := dk_182 0 197 (dk_at dksX6_readText_0 11 rfl rfl)
theorem dX6_readText_14 : decode cX6_readText 14 = .ok (.ifCond .eq 127, 3) := dk_153 0 127 (dk_at dksX6_readText_0 14 rfl rfl)
theorem dX6_readText_17 : decode cX6_readText 17 = .ok (.goto 19, 3) := dk_167 0 19 (dk_at dksX6_readText_0 17 rfl rfl)
theorem dX6_readText_20 : decode cX6_readText 20 = .ok (.aload_n 0, 1) := dk_42 (dk_at dksX6_readText_0 20 rfl rfl)
theorem dX6_readText_21 : decode cX6_readText 21 = .ok (.iconst 1, 1) := dk_4 (dk_at dksX6_readText_0 21 rfl rfl)
theorem dX6_readText_22 : decode cX6_readText 22 = .ok (.invokevirtual 197, 3) := dk_182 0 197 (dk_at dksX6_readText_1 0 rfl rfl)
theorem dX6_readText_25 : decode cX6_readText 25 = .ok (.ifCond .ne 11, 3) := dk_154 0 11 (dk_at dksX6_readText_1 3 rfl rfl)
theorem dX6_readText_28 : decode cX6_readText 28 = .ok (.aload_n 0, 1) := dk_42 (dk_at dksX6_readText_1 6 rfl rfl)
theorem dX6_readText_29 : decode cX6_readText 29 = .ok (.iconst 2, 1) := dk_5 (dk_at dksX6_readText_1 7 rfl rfl)
theorem dX6_readText_30 : decode cX6_readText 30 = .ok (.invokevirtual 197, 3) := dk_182 0 197 (dk_at dksX6_readText_1 8 rfl rfl)
theorem dX6_readText_33 : decode cX6_readText 33 = .ok (.ifCond .eq 108, 3) := dk_153 0 108 (dk_at dksX6_readText_1 11 rfl rfl)
theorem dX6_readText_36 : decode cX6_readText 36 = .ok (.iload_n 1, 1) := dk_27 (dk_at dksX6_readText_1 14 rfl rfl)
theorem dX6_readText_37 : decode cX6_readText 37 = .ok (.bipush 16, 2) := dk_16 16 (dk_at dksX6_readText_1 15 rfl rfl)
theorem dX6_readText_39 : decode cX6_readText 39 = .ok (.if_icmp .ne 9, 3) := dk_160 0 9 (dk_at dksX6_readText_1 17 rfl rfl)
theorem dX6_readText_42 : decode cX6_readText 42 = .ok (.aload_n 0, 1) := dk_42 (dk_at dksX6_readText_1 20 rfl rfl)
theorem dX6_readText_43 : decode cX6_readText 43 = .ok (.iconst 3, 1) := dk_6 (dk_at dksX6_readText_1 21 rfl rfl)
theorem dX6_readText_44 : decode cX6_readText 44 = .ok (.invokevirtual 168, 3) := dk_182 0 168 (dk_at dksX6_readText_2 0 rfl rfl)
theorem dX6_readText_47 : decode cX6_readText 47 = .ok (.ireturn, 1) := dk_172 (dk_at dksX6_readText_2 3 rfl rfl)
theorem dX6_readText_48 : decode cX6_readText 48 = .ok (.bipush 96, 2) := dk_16 96 (dk_at dksX6_readText_2 4 rfl rfl)
theorem dX6_readText_50 : decode cX6_readText 50 = .ok (.iload_n 1, 1) := dk_27 (dk_at dksX6_readText_2 6 rfl rfl)
theorem dX6_readText_51 : decode cX6_readText 51 = .ok (.iadd, 1) := dk_96 (dk_at dksX6_readText_2 7 rfl rfl)
theorem dX6_readText_52 : decode cX6_readText 52 = .ok (.istore_n 2, 1) := dk_61 (dk_at dksX6_readText_2 8 rfl rfl)
theorem dX6_readText_53 : decode cX6_readText 53 = .ok (.aload_n 0, 1) := dk_42 (dk_at dksX6_readText_2 9 rfl rfl)
theorem dX6_readText_54 : decode cX6_readText 54 = .ok (.getfield 28, 3) := dk_180 0 28 (dk_at dksX6_readText_2 10 rfl rfl)
theorem dX6_readText_57 : decode cX6_readText 57 = .ok (.iload_n 2, 1) := dk_28 (dk_at dksX6_readText_2 13 rfl rfl)
theorem dX6_readText_58 : decode cX6_readText 58 = .ok (.aload_n 0, 1) := dk_42 (dk_at dksX6_readText_2 14 rfl rfl)
theorem dX6_readText_59 : decode cX6_readText 59 = .ok (.getfield 140, 3) := dk_180 0 140 (dk_at dksX6_readText_2 15 rfl rfl)
theorem dX6_readText_62 : decode cX6_readText 62 = .ok (.iastore, 1) := dk_79 (dk_at dksX6_readText_2 18 rfl rfl)
theorem dX6_readText_63 : decode cX6_readText 63 = .ok (.aload_n 0, 1) := dk_42 (dk_at dksX6_readText_2 19 rfl rfl)
theorem dX6_readText_64 : decode cX6_readText 64 = .ok (.invokevirtual 175, 3) := dk_182 0 175 (dk_at dksX6_readText_2 20 rfl rfl)
theorem dX6_readText_67 : decode cX6_readText 67 = .ok (.aload_n 0, 1) := dk_42 (dk_at dksX6_readText_2 23 rfl rfl)
theorem dX6_readText_68 : decode cX6_readText 68 = .ok (.iconst 3, 1) := dk_6 (dk_at dksX6_readText_3 0 rfl rfl)
theorem dX6_readText_69 : decode cX6_readText 69 = .ok (.invokevirtual 197, 3) := dk_182 0 197 (dk_at dksX6_readText_3 1 rfl rfl)
theorem dX6_readText_72 : decode cX6_readText 72 = .ok (.ifCond .ne 9, 3) := dk_154 0 9 (dk_at dksX6_readText_3 4 rfl rfl)
theorem dX6_readText_75 : decode cX6_readText 75 = .ok (.aload_n 0, 1) := dk_42 (dk_at dksX6_readText_3 7 rfl rfl)
theorem dX6_readText_76 : decode cX6_readText 76 = .ok (.iconst 1, 1) := dk_4 (dk_at dksX6_readText_3 8 rfl rfl)
theorem dX6_readText_77 : decode cX6_readText 77 = .ok (.invokevirtual 168, 3) := dk_182 0 168 (dk_at dksX6_readText_3 9 rfl rfl)
theorem dX6_readText_80 : decode cX6_readText 80 = .ok (.ireturn, 1) := dk_172 (dk_at dksX6_readText_3 12 rfl rfl)
theorem dX6_readText_81 : decode cX6_readText 81 = .ok (.aload_n 0, 1) := dk_42 (dk_at dksX6_readText_3 13 rfl rfl)
theorem dX6_readText_82 : decode cX6_readText 82 = .ok (.invokevirtual 175, 3) := dk_182 0 175 (dk_at dksX6_readText_3 14 rfl rfl)
theorem dX6_readText_85 : decode cX6_readText 85 = .ok (.aload_n 0, 1) := dk_42 (dk_at dksX6_readText_3 17 rfl rfl)
theorem dX6_readText_86 : decode cX6_readText 86 = .ok (.getfield 31, 3) := dk_180 0 31 (dk_at dksX6_readText_3 18 rfl rfl)
theorem dX6_readText_89 : decode cX6_readText 89 = .ok (.iload_n 2, 1) := dk_28 (dk_at dksX6_readText_3 21 rfl rfl)
theorem dX6_readText_90 : decode cX6_readText 90 = .ok (.aload_n 0, 1) := dk_42 (dk_at dksX6_readText_3 22 rfl rfl)
theorem dX6_readText_91 : decode cX6_readText 91 = .ok (.getfield 165, 3) := dk_180 0 165 (dk_at dksX6_readText_4 0 rfl rfl)
theorem dX6_readText_94 : decode cX6_readText 94 = .ok (.iastore, 1) := dk_79 (dk_at dksX6_readText_4 3 rfl rfl)
theorem dX6_readText_95 : decode cX6_readText 95 = .ok (.aload_n 0, 1) := dk_42 (dk_at dksX6_readText_4 4 rfl rfl)
theorem dX6_readText_96 : decode cX6_readText 96 = .ok (.invokevirtual 209, 3) := dk_182 0 209 (dk_at dksX6_readText_4 5 rfl rfl)
theorem dX6_readText_99 : decode cX6_readText 99 = .ok (.iconst (-1), 1) := dk_2 (dk_at dksX6_readText_4 8 rfl rfl)
theorem dX6_readText_100 : decode cX6_readText 100 = .ok (.if_icmp .ne 5, 3) := dk_160 0 5 (dk_at dksX6_readText_4 9 rfl rfl)
theorem dX6_readText_103 : decode cX6_readText 103 = .ok (.iconst (-1), 1) := dk_2 (dk_at dksX6_readText_4 12 rfl rfl)
theorem dX6_readText_104 : decode cX6_readText 104 = .ok (.ireturn, 1) := dk_172 (dk_at dksX6_readText_4 13 rfl rfl)
theorem dX6_readText_105 : decode cX6_readText 105 = .ok (.aload_n 0, 1) := dk_42 (dk_at dksX6_readText_4 14 rfl rfl)
theorem dX6_readText_106 : decode cX6_readText 106 = .ok (.getfield 34, 3) := dk_180 0 34 (dk_at dksX6_readText_4 15 rfl rfl)
theorem dX6_readText_109 : decode cX6_readText 109 = .ok (.iload_n 2, 1) := dk_28 (dk_at dksX6_readText_4 18 rfl rfl)
theorem dX6_readText_110 : decode cX6_readText 110 = .ok (.aload_n 0, 1) := dk_42 (dk_at dksX6_readText_4 19 rfl rfl)
theorem dX6_readText_111 : decode cX6_readText 111 = .ok (.getfield 165, 3) := dk_180 0 165 (dk_at dksX6_readText_4 20 rfl rfl)
theorem dX6_readText_114 : decode cX6_readText 114 = .ok (.iastore, 1) := dk_79 (dk_at dksX6_readText_4 23 rfl rfl)
theorem dX6_readText_115 : decode cX6_readText 115 = .ok (.aload_n 0, 1) := dk_42 (dk_at dksX6_readText_5 0 rfl rfl)
theorem dX6_readText_116 : decode cX6_readText 116 = .ok (.bipush 59, 2) := dk_16 59 (dk_at dksX6_readText_5 1 rfl rfl)
theorem dX6_readText_118 : decode cX6_readText 118 = .ok (.invokevirtual 182, 3) := dk_182 0 182 (dk_at dksX6_readText_5 3 rfl rfl)
theorem dX6_readText_121 : decode cX6_readText 121 = .ok (.ifCond .ne 9, 3) := dk_154 0 9 (dk_at dksX6_readText_5 6 rfl rfl)
theorem dX6_readText_124 : decode cX6_readText 124 = .ok (.aload_n 0, 1) := dk_42 (dk_at dksX6_readText_5 9 rfl rfl)
theorem dX6_readText_125 : decode cX6_readText 125 = .ok (.iconst 1, 1) := dk_4 (dk_at dksX6_readText_5 10 rfl rfl)
theorem dX6_readText_126 : decode cX6_readText 126 = .ok (.invokevirtual 168, 3) := dk_182 0 168 (dk_at dksX6_readText_5 11 rfl rfl)
theorem dX6_readText_129 : decode cX6_readText 129 = .ok (.ireturn, 1) := dk_172 (dk_at dksX6_readText_5 14 rfl rfl)
theorem dX6_readText_130 : decode cX6_readText 130 = .ok (.aload_n 0, 1) := dk_42 (dk_at dksX6_readText_5 15 rfl rfl)
theorem dX6_readText_131 : decode cX6_readText 131 = .ok (.invokevirtual 175, 3) := dk_182 0 175 (dk_at dksX6_readText_5 16 rfl rfl)
theorem dX6_readText_134 : decode cX6_readText 134 = .ok (.iload_n 1, 1) := dk_27 (dk_at dksX6_readText_5 19 rfl rfl)
theorem dX6_readText_135 : decode cX6_readText 135 = .ok (.iconst 1, 1) := dk_4 (dk_at dksX6_readText_5 20 rfl rfl)
theorem dX6_readText_136 : decode cX6_readText 136 = .ok (.iadd, 1) := dk_96 (dk_at dksX6_readText_5 21 rfl rfl)
theorem dX6_readText_137 : decode cX6_readText 137 = .ok (.istore_n 1, 1) := dk_60 (dk_at dksX6_readText_5 22 rfl rfl)
theorem dX6_readText_138 : decode cX6_readText 138 = .ok (.goto (-136), 3) := dk_167 255 120 (dk_at dksX6_readText_6 0 rfl rfl)
theorem dX6_readText_141 : decode cX6_readText 141 = .ok (.aload_n 0, 1) := dk_42 (dk_at dksX6_readText_6 3 rfl rfl)
theorem dX6_readText_142 : decode cX6_readText 142 = .ok (.getfield 137, 3) := dk_180 0 137 (dk_at dksX6_readText_6 4 rfl rfl)
theorem dX6_readText_145 : decode cX6_readText 145 = .ok (.ifCond .ne 7, 3) := dk_154 0 7 (dk_at dksX6_readText_6 7 rfl rfl)
theorem dX6_readText_148 : decode cX6_readText 148 = .ok (.iload_n 1, 1) := dk_27 (dk_at dksX6_readText_6 10 rfl rfl)
theorem dX6_readText_149 : decode cX6_readText 149 = .ok (.goto 8, 3) := dk_167 0 8 (dk_at dksX6_readText_6 11 rfl rfl)
theorem dX6_readText_152 : decode cX6_readText 152 = .ok (.aload_n 0, 1) := dk_42 (dk_at dksX6_readText_6 14 rfl rfl)
theorem dX6_readText_153 : decode cX6_readText 153 = .ok (.iconst 1, 1) := dk_4 (dk_at dksX6_readText_6 15 rfl rfl)
theorem dX6_readText_154 : decode cX6_readText 154 = .ok (.invokevirtual 168, 3) := dk_182 0 168 (dk_at dksX6_readText_6 16 rfl rfl)
theorem dX6_readText_157 : decode cX6_readText 157 = .ok (.ireturn, 1) := dk_172 (dk_at dksX6_readText_6 19 rfl rfl)
abbrev cX6_isWord : ByteArray := prog_17_method_27_code
def yX6_isWord : MethodName := ⟨RX6, "isWord", "(I)Z"⟩
def dkwX6_isWord_0 : List UInt8 := [42, 180, 0, 137, 5, 160, 0, 15, 42, 180, 0, 140, 27, 160, 0, 7, 4, 167, 0, 4, 3, 172]
abbrev dktX6_isWord_0 : List UInt8 := dkwX6_isWord_0 ++ []
theorem dksX6_isWord_0 : cX6_isWord.data.toList.drop 0 = dktX6_isWord_0 := by decide +kernel
theorem dX6_isWord_0 : decode cX6_isWord 0 = .ok (.aload_n 0, 1) := dk_42 (dk_at dksX6_isWord_0 0 rfl rfl)
theorem dX6_isWord_1 : decode cX6_isWord 1 = .ok (.getfield 137, 3) := dk_180 0 137 (dk_at dksX6_isWord_0 1 rfl rfl)
theorem dX6_isWord_4 : decode cX6_isWord 4 = .ok (.iconst 2, 1) := dk_5 (dk_at dksX6_isWord_0 4 rfl rfl)
theorem dX6_isWord_5 : decode cX6_isWord 5 = .ok (.if_icmp .ne 15, 3) := dk_160 0 15 (dk_at dksX6_isWord_0 5 rfl rfl)
theorem dX6_isWord_8 : decode cX6_isWord 8 = .ok (.aload_n 0, 1) := dk_42 (dk_at dksX6_isWord_0 8 rfl rfl)
theorem dX6_isWord_9 : decode cX6_isWord 9 = .ok (.getfield 140, 3) := dk_180 0 140 (dk_at dksX6_isWord_0 9 rfl rfl)
theorem dX6_isWord_12 : decode cX6_isWord 12 = .ok (.iload_n 1, 1) := dk_27 (dk_at dksX6_isWord_0 12 rfl rfl)
theorem dX6_isWord_13 : decode cX6_isWord 13 = .ok (.if_icmp .ne 7, 3) := dk_160 0 7 (dk_at dksX6_isWord_0 13 rfl rfl)
theorem dX6_isWord_16 : decode cX6_isWord 16 = .ok (.iconst 1, 1) := dk_4 (dk_at dksX6_isWord_0 16 rfl rfl)
theorem dX6_isWord_17 : decode cX6_isWord 17 = .ok (.goto 4, 3) := dk_167 0 4 (dk_at dksX6_isWord_0 17 rfl rfl)
theorem dX6_isWord_20 : decode cX6_isWord 20 = .ok (.iconst 0, 1) := dk_3 (dk_at dksX6_isWord_0 20 rfl rfl)
theorem dX6_isWord_21 : decode cX6_isWord 21 = .ok (.ireturn, 1) := dk_172 (dk_at dksX6_isWord_0 21 rfl rfl)
abbrev cX6_errs : ByteArray := prog_17_method_26_code
def yX6_errs : MethodName := ⟨RX6, "errs", "(I)I"⟩
def dkwX6_errs_0 : List UInt8 := [42, 27, 181, 0, 159, 42, 42, 180, 0, 134, 181, 0, 162, 2, 172]
abbrev dktX6_errs_0 : List UInt8 := dkwX6_errs_0 ++ []
theorem dksX6_errs_0 : cX6_errs.data.toList.drop 0 = dktX6_errs_0 := by decide +kernel
theorem dX6_errs_0 : decode cX6_errs 0 = .ok (.aload_n 0, 1) := dk_42 (dk_at dksX6_errs_0 0 rfl rfl)
theorem dX6_errs_1 : decode cX6_errs 1 = .ok (.iload_n 1, 1) := dk_27 (dk_at dksX6_errs_0 1 rfl rfl)
theorem dX6_errs_2 : decode cX6_errs 2 = .ok (.putfield 159, 3) := dk_181 0 159 (dk_at dksX6_errs_0 2 rfl rfl)
theorem dX6_errs_5 : decode cX6_errs 5 = .ok (.aload_n 0, 1) := dk_42 (dk_at dksX6_errs_0 5 rfl rfl)
theorem dX6_errs_6 : decode cX6_errs 6 = .ok (.aload_n 0, 1) := dk_42 (dk_at dksX6_errs_0 6 rfl rfl)
theorem dX6_errs_7 : decode cX6_errs 7 = .ok (.getfield 134, 3) := dk_180 0 134 (dk_at dksX6_errs_0 7 rfl rfl)
theorem dX6_errs_10 : decode cX6_errs 10 = .ok (.putfield 162, 3) := dk_181 0 162 (dk_at dksX6_errs_0 10 rfl rfl)
theorem dX6_errs_13 : decode cX6_errs 13 = .ok (.iconst (-1), 1) := dk_2 (dk_at dksX6_errs_0 13 rfl rfl)
theorem dX6_errs_14 : decode cX6_errs 14 = .ok (.ireturn, 1) := dk_172 (dk_at dksX6_errs_0 14 rfl rfl)
abbrev cX6_readAny : ByteArray := prog_17_method_36_code
def yX6_readAny : MethodName := ⟨RX6, "readAny", "()I"⟩
def dkwX6_readAny_10 : List UInt8 := [16, 9, 182, 0, 206, 42, 182, 0, 175, 167, 255, 25]
abbrev dktX6_readAny_10 : List UInt8 := dkwX6_readAny_10 ++ []
def dkwX6_readAny_9 : List UInt8 := [180, 0, 191, 4, 100, 181, 0, 191, 27, 4, 100, 60, 42, 42, 180, 0, 194, 4, 100, 181, 0, 194, 42]
abbrev dktX6_readAny_9 : List UInt8 := dkwX6_readAny_9 ++ dktX6_readAny_10
def dkwX6_readAny_8 : List UInt8 := [154, 0, 5, 3, 172, 42, 16, 41, 182, 0, 182, 154, 0, 9, 42, 4, 182, 0, 168, 172, 42, 42]
abbrev dktX6_readAny_8 : List UInt8 := dkwX6_readAny_8 ++ dktX6_readAny_9
def dkwX6_readAny_7 : List UInt8 := [42, 182, 0, 175, 4, 61, 167, 255, 95, 42, 16, 10, 182, 0, 206, 42, 16, 11, 182, 0, 206, 27]
abbrev dktX6_readAny_7 : List UInt8 := dkwX6_readAny_7 ++ dktX6_readAny_8
def dkwX6_readAny_6 : List UInt8 := [182, 0, 197, 153, 0, 30, 42, 16, 10, 182, 0, 206, 42, 16, 11, 182, 0, 206, 42, 16, 11, 182, 0, 200]
abbrev dktX6_readAny_6 : List UInt8 := dkwX6_readAny_6 ++ dktX6_readAny_7
def dkwX6_readAny_5 : List UInt8 := [42, 16, 10, 182, 0, 206, 42, 16, 10, 182, 0, 200, 42, 182, 0, 175, 4, 61, 167, 255, 130, 42, 7]
abbrev dktX6_readAny_5 : List UInt8 := dkwX6_readAny_5 ++ dktX6_readAny_6
def dkwX6_readAny_4 : List UInt8 := [160, 0, 5, 2, 172, 42, 16, 9, 182, 0, 206, 3, 61, 167, 255, 159, 42, 8, 182, 0, 197, 153, 0, 24]
abbrev dktX6_readAny_4 : List UInt8 := dkwX6_readAny_4 ++ dktX6_readAny_5
def dkwX6_readAny_3 : List UInt8 := [16, 9, 167, 0, 5, 16, 12, 182, 0, 200, 42, 182, 0, 175, 167, 255, 180, 42, 182, 0, 203, 2]
abbrev dktX6_readAny_3 : List UInt8 := dkwX6_readAny_3 ++ dktX6_readAny_4
def dkwX6_readAny_2 : List UInt8 := [42, 42, 180, 0, 194, 4, 96, 181, 0, 194, 29, 154, 0, 7, 27, 4, 96, 60, 42, 29, 153, 0, 8]
abbrev dktX6_readAny_2 : List UInt8 := dkwX6_readAny_2 ++ dktX6_readAny_3
def dkwX6_readAny_1 : List UInt8 := [42, 16, 40, 182, 0, 182, 153, 0, 58, 42, 180, 0, 194, 16, 8, 160, 0, 9, 42, 6, 182, 0, 168, 172]
abbrev dktX6_readAny_1 : List UInt8 := dkwX6_readAny_1 ++ dktX6_readAny_2
def dkwX6_readAny_0 : List UInt8 := [3, 60, 42, 3, 181, 0, 191, 4, 61, 28, 153, 0, 99, 42, 16, 6, 182, 0, 197, 62, 29, 154, 0, 12]
abbrev dktX6_readAny_0 : List UInt8 := dkwX6_readAny_0 ++ dktX6_readAny_1
theorem dksX6_readAny_0 : cX6_readAny.data.toList.drop 0 = dktX6_readAny_0 := by decide +kernel
theorem dksX6_readAny_1 : cX6_readAny.data.toList.drop 24 = dktX6_readAny_1 := dk_seg dksX6_readAny_0 24 rfl rfl
theorem dksX6_readAny_2 : cX6_readAny.data.toList.drop 48 = dktX6_readAny_2 := dk_seg dksX6_readAny_1 24 rfl rfl
theorem dksX6_readAny_3 : cX6_readAny.data.toList.drop 71 = dktX6_readAny_3 := dk_seg dksX6_readAny_2 23 rfl rfl
theorem dksX6_readAny_4 : cX6_readAny.data.toList.drop 93 = dktX6_readAny_4 := dk_seg dksX6_readAny_3 22 rfl rfl
theorem dksX6_readAny_5 : cX6_readAny.data.toList.drop 117 = dktX6_readAny_5 := dk_seg dksX6_readAny_4 24 rfl rfl
theorem dksX6_readAny_6 : cX6_readAny.data.toList.drop 140 = dktX6_readAny_6 := dk_seg dksX6_readAny_5 23 rfl rfl
theorem dksX6_readAny_7 : cX6_readAny.data.toList.drop 164 = dktX6_readAny_7 := dk_seg dksX6_readAny_6 24 rfl rfl
theorem dksX6_readAny_8 : cX6_readAny.data.toList.drop 186 = dktX6_readAny_8 := dk_seg dksX6_readAny_7 22 rfl rfl
theorem dksX6_readAny_9 : cX6_readAny.data.toList.drop 208 = dktX6_readAny_9 := dk_seg dksX6_readAny_8 22 rfl rfl
theorem dksX6_readAny_10 : cX6_readAny.data.toList.drop 231 = dktX6_readAny_10 := dk_seg dksX6_readAny_9 23 rfl rfl
theorem dX6_readAny_0 : decode cX6_readAny 0 = .ok (.iconst 0, 1) := dk_3 (dk_at dksX6_readAny_0 0 rfl rfl)
theorem dX6_readAny_1 : decode cX6_readAny 1 = .ok (.istore_n 1, 1) := dk_60 (dk_at dksX6_readAny_0 1 rfl rfl)
theorem dX6_readAny_2 : decode cX6_readAny 2 = .ok (.aload_n 0, 1) := dk_42 (dk_at dksX6_readAny_0 2 rfl rfl)
theorem dX6_readAny_3 : decode cX6_readAny 3 = .ok (.iconst 0, 1) := dk_3 (dk_at dksX6_readAny_0 3 rfl rfl)
theorem dX6_readAny_4 : decode cX6_readAny 4 = .ok (.putfield 191, 3) := dk_181 0 191 (dk_at dksX6_readAny_0 4 rfl rfl)
theorem dX6_readAny_7 : decode cX6_readAny 7 = .ok (.iconst 1, 1) := dk_4 (dk_at dksX6_readAny_0 7 rfl rfl)
theorem dX6_readAny_8 : decode cX6_readAny 8 = .ok (.istore_n 2, 1) := dk_61 (dk_at dksX6_readAny_0 8 rfl rfl)
theorem dX6_readAny_9 : decode cX6_readAny 9 = .ok (.iload_n 2, 1) := dk_28 (dk_at dksX6_readAny_0 9 rfl rfl)
theorem dX6_readAny_10 : decode cX6_readAny 10 = .ok (.ifCond .eq 99, 3) := dk_153 0 99 (dk_at dksX6_readAny_0 10 rfl rfl)
theorem dX6_readAny_13 : decode cX6_readAny 13 = .ok (.aload_n 0, 1) := dk_42 (dk_at dksX6_readAny_0 13 rfl rfl)
theorem dX6_readAny_14 : decode cX6_readAny 14 = .ok (.bipush 6, 2) := dk_16 6 (dk_at dksX6_readAny_0 14 rfl rfl)
theorem dX6_readAny_16 : decode cX6_readAny 16 = .ok (.invokevirtual 197, 3) := dk_182 0 197 (dk_at dksX6_readAny_0 16 rfl rfl)
theorem dX6_readAny_19 : decode cX6_readAny 19 = .ok (.istore_n 3, 1) := dk_62 (dk_at dksX6_readAny_0 19 rfl rfl)
theorem dX6_readAny_20 : decode cX6_readAny 20 = .ok (.iload_n 3, 1) := dk_29 (dk_at dksX6_readAny_0 20 rfl rfl)
theorem dX6_readAny_21 : decode cX6_readAny 21 = .ok (.ifCond .ne 12, 3) := dk_154 0 12 (dk_at dksX6_readAny_0 21 rfl rfl)
theorem dX6_readAny_24 : decode cX6_readAny 24 = .ok (.aload_n 0, 1) := dk_42 (dk_at dksX6_readAny_1 0 rfl rfl)
theorem dX6_readAny_25 : decode cX6_readAny 25 = .ok (.bipush 40, 2) := dk_16 40 (dk_at dksX6_readAny_1 1 rfl rfl)
theorem dX6_readAny_27 : decode cX6_readAny 27 = .ok (.invokevirtual 182, 3) := dk_182 0 182 (dk_at dksX6_readAny_1 3 rfl rfl)
theorem dX6_readAny_30 : decode cX6_readAny 30 = .ok (.ifCond .eq 58, 3) := dk_153 0 58 (dk_at dksX6_readAny_1 6 rfl rfl)
theorem dX6_readAny_33 : decode cX6_readAny 33 = .ok (.aload_n 0, 1) := dk_42 (dk_at dksX6_readAny_1 9 rfl rfl)
theorem dX6_readAny_34 : decode cX6_readAny 34 = .ok (.getfield 194, 3) := dk_180 0 194 (dk_at dksX6_readAny_1 10 rfl rfl)
theorem dX6_readAny_37 : decode cX6_readAny 37 = .ok (.bipush 8, 2) := dk_16 8 (dk_at dksX6_readAny_1 13 rfl rfl)
theorem dX6_readAny_39 : decode cX6_readAny 39 = .ok (.if_icmp .ne 9, 3) := dk_160 0 9 (dk_at dksX6_readAny_1 15 rfl rfl)
theorem dX6_readAny_42 : decode cX6_readAny 42 = .ok (.aload_n 0, 1) := dk_42 (dk_at dksX6_readAny_1 18 rfl rfl)
theorem dX6_readAny_43 : decode cX6_readAny 43 = .ok (.iconst 3, 1) := dk_6 (dk_at dksX6_readAny_1 19 rfl rfl)
theorem dX6_readAny_44 : decode cX6_readAny 44 = .ok (.invokevirtual 168, 3) := dk_182 0 168 (dk_at dksX6_readAny_1 20 rfl rfl)
theorem dX6_readAny_47 : decode cX6_readAny 47 = .ok (.ireturn, 1) := dk_172 (dk_at dksX6_readAny_1 23 rfl rfl)
theorem dX6_readAny_48 : decode cX6_readAny 48 = .ok (.aload_n 0, 1) := dk_42 (dk_at dksX6_readAny_2 0 rfl rfl)
theorem dX6_readAny_49 : decode cX6_readAny 49 = .ok (.aload_n 0, 1) := dk_42 (dk_at dksX6_readAny_2 1 rfl rfl)
theorem dX6_readAny_50 : decode cX6_readAny 50 = .ok (.getfield 194, 3) := dk_180 0 194 (dk_at dksX6_readAny_2 2 rfl rfl)
theorem dX6_readAny_53 : decode cX6_readAny 53 = .ok (.iconst 1, 1) := dk_4 (dk_at dksX6_readAny_2 5 rfl rfl)
theorem dX6_readAny_54 : decode cX6_readAny 54 = .ok (.iadd, 1) := dk_96 (dk_at dksX6_readAny_2 6 rfl rfl)
theorem dX6_readAny_55 : decode cX6_readAny 55 = .ok (.putfield 194, 3) := dk_181 0 194 (dk_at dksX6_readAny_2 7 rfl rfl)
theorem dX6_readAny_58 : decode cX6_readAny 58 = .ok (.iload_n 3, 1) := dk_29 (dk_at dksX6_readAny_2 10 rfl rfl)
theorem dX6_readAny_59 : decode cX6_readAny 59 = .ok (.ifCond .ne 7, 3) := dk_154 0 7 (dk_at dksX6_readAny_2 11 rfl rfl)
theorem dX6_readAny_62 : decode cX6_readAny 62 = .ok (.iload_n 1, 1) := dk_27 (dk_at dksX6_readAny_2 14 rfl rfl)
theorem dX6_readAny_63 : decode cX6_readAny 63 = .ok (.iconst 1, 1) := dk_4 (dk_at dksX6_readAny_2 15 rfl rfl)
theorem dX6_readAny_64 : decode cX6_readAny 64 = .ok (.iadd, 1) := dk_96 (dk_at dksX6_readAny_2 16 rfl rfl)
theorem dX6_readAny_65 : decode cX6_readAny 65 = .ok (.istore_n 1, 1) := dk_60 (dk_at dksX6_readAny_2 17 rfl rfl)
theorem dX6_readAny_66 : decode cX6_readAny 66 = .ok (.aload_n 0, 1) := dk_42 (dk_at dksX6_readAny_2 18 rfl rfl)
theorem dX6_readAny_67 : decode cX6_readAny 67 = .ok (.iload_n 3, 1) := dk_29 (dk_at dksX6_readAny_2 19 rfl rfl)
theorem dX6_readAny_68 : decode cX6_readAny 68 = .ok (.ifCond .eq 8, 3) := dk_153 0 8 (dk_at dksX6_readAny_2 20 rfl rfl)
theorem dX6_readAny_71 : decode cX6_readAny 71 = .ok (.bipush 9, 2) := dk_16 9 (dk_at dksX6_readAny_3 0 rfl rfl)
theorem dX6_readAny_73 : decode cX6_readAny 73 = .ok (.goto 5, 3) := dk_167 0 5 (dk_at dksX6_readAny_3 2 rfl rfl)
theorem dX6_readAny_76 : decode cX6_readAny 76 = .ok (.bipush 12, 2) := dk_16 12 (dk_at dksX6_readAny_3 5 rfl rfl)
theorem dX6_readAny_78 : decode cX6_readAny 78 = .ok (.invokevirtual 200, 3) := dk_182 0 200 (dk_at dksX6_readAny_3 7 rfl rfl)
theorem dX6_readAny_81 : decode cX6_readAny 81 = .ok (.aload_n 0, 1) := dk_42 (dk_at dksX6_readAny_3 10 rfl rfl)
theorem dX6_readAny_82 : decode cX6_readAny 82 = .ok (.invokevirtual 175, 3) := dk_182 0 175 (dk_at dksX6_readAny_3 11 rfl rfl)
theorem dX6_readAny_85 : decode cX6_readAny 85 = .ok (.goto (-76), 3) := dk_167 255 180 (dk_at dksX6_readAny_3 14 rfl rfl)
theorem dX6_readAny_88 : decode cX6_readAny 88 = .ok (.aload_n 0, 1) := dk_42 (dk_at dksX6_readAny_3 17 rfl rfl)
theorem dX6_readAny_89 : decode cX6_readAny 89 = .ok (.invokevirtual 203, 3) := dk_182 0 203 (dk_at dksX6_readAny_3 18 rfl rfl)
theorem dX6_readAny_92 : decode cX6_readAny 92 = .ok (.iconst (-1), 1) := dk_2 (dk_at dksX6_readAny_3 21 rfl rfl)
theorem dX6_readAny_93 : decode cX6_readAny 93 = .ok (.if_icmp .ne 5, 3) := dk_160 0 5 (dk_at dksX6_readAny_4 0 rfl rfl)
theorem dX6_readAny_96 : decode cX6_readAny 96 = .ok (.iconst (-1), 1) := dk_2 (dk_at dksX6_readAny_4 3 rfl rfl)
theorem dX6_readAny_97 : decode cX6_readAny 97 = .ok (.ireturn, 1) := dk_172 (dk_at dksX6_readAny_4 4 rfl rfl)
theorem dX6_readAny_98 : decode cX6_readAny 98 = .ok (.aload_n 0, 1) := dk_42 (dk_at dksX6_readAny_4 5 rfl rfl)
theorem dX6_readAny_99 : decode cX6_readAny 99 = .ok (.bipush 9, 2) := dk_16 9 (dk_at dksX6_readAny_4 6 rfl rfl)
theorem dX6_readAny_101 : decode cX6_readAny 101 = .ok (.invokevirtual 206, 3) := dk_182 0 206 (dk_at dksX6_readAny_4 8 rfl rfl)
theorem dX6_readAny_104 : decode cX6_readAny 104 = .ok (.iconst 0, 1) := dk_3 (dk_at dksX6_readAny_4 11 rfl rfl)
theorem dX6_readAny_105 : decode cX6_readAny 105 = .ok (.istore_n 2, 1) := dk_61 (dk_at dksX6_readAny_4 12 rfl rfl)
theorem dX6_readAny_106 : decode cX6_readAny 106 = .ok (.goto (-97), 3) := dk_167 255 159 (dk_at dksX6_readAny_4 13 rfl rfl)
theorem dX6_readAny_109 : decode cX6_readAny 109 = .ok (.aload_n 0, 1) := dk_42 (dk_at dksX6_readAny_4 16 rfl rfl)
theorem dX6_readAny_110 : decode cX6_readAny 110 = .ok (.iconst 5, 1) := dk_8 (dk_at dksX6_readAny_4 17 rfl rfl)
theorem dX6_readAny_111 : decode cX6_readAny 111 = .ok (.invokevirtual 197, 3) := dk_182 0 197 (dk_at dksX6_readAny_4 18 rfl rfl)
theorem dX6_readAny_114 : decode cX6_readAny 114 = .ok (.ifCond .eq 24, 3) := dk_153 0 24 (dk_at dksX6_readAny_4 21 rfl rfl)
theorem dX6_readAny_117 : decode cX6_readAny 117 = .ok (.aload_n 0, 1) := dk_42 (dk_at dksX6_readAny_5 0 rfl rfl)
theorem dX6_readAny_118 : decode cX6_readAny 118 = .ok (.bipush 10, 2) := dk_16 10 (dk_at dksX6_readAny_5 1 rfl rfl)
theorem dX6_readAny_120 : decode cX6_readAny 120 = .ok (.invokevirtual 206, 3) := dk_182 0 206 (dk_at dksX6_readAny_5 3 rfl rfl)
theorem dX6_readAny_123 : decode cX6_readAny 123 = .ok (.aload_n 0, 1) := dk_42 (dk_at dksX6_readAny_5 6 rfl rfl)
theorem dX6_readAny_124 : decode cX6_readAny 124 = .ok (.bipush 10, 2) := dk_16 10 (dk_at dksX6_readAny_5 7 rfl rfl)
theorem dX6_readAny_126 : decode cX6_readAny 126 = .ok (.invokevirtual 200, 3) := dk_182 0 200 (dk_at dksX6_readAny_5 9 rfl rfl)
theorem dX6_readAny_129 : decode cX6_readAny 129 = .ok (.aload_n 0, 1) := dk_42 (dk_at dksX6_readAny_5 12 rfl rfl)
theorem dX6_readAny_130 : decode cX6_readAny 130 = .ok (.invokevirtual 175, 3) := dk_182 0 175 (dk_at dksX6_readAny_5 13 rfl rfl)
theorem dX6_readAny_133 : decode cX6_readAny 133 = .ok (.iconst 1, 1) := dk_4 (dk_at dksX6_readAny_5 16 rfl rfl)
theorem dX6_readAny_134 : decode cX6_readAny 134 = .ok (.istore_n 2, 1) := dk_61 (dk_at dksX6_readAny_5 17 rfl rfl)
theorem dX6_readAny_135 : decode cX6_readAny 135 = .ok (.goto (-126), 3) := dk_167 255 130 (dk_at dksX6_readAny_5 18 rfl rfl)
theorem dX6_readAny_138 : decode cX6_readAny 138 = .ok (.aload_n 0, 1) := dk_42 (dk_at dksX6_readAny_5 21 rfl rfl)
theorem dX6_readAny_139 : decode cX6_readAny 139 = .ok (.iconst 4, 1) := dk_7 (dk_at dksX6_readAny_5 22 rfl rfl)
theorem dX6_readAny_140 : decode cX6_readAny 140 = .ok (.invokevirtual 197, 3) := dk_182 0 197 (dk_at dksX6_readAny_6 0 rfl rfl)
theorem dX6_readAny_143 : decode cX6_readAny 143 = .ok (.ifCond .eq 30, 3) := dk_153 0 30 (dk_at dksX6_readAny_6 3 rfl rfl)
theorem dX6_readAny_146 : decode cX6_readAny 146 = .ok (.aload_n 0, 1) := dk_42 (dk_at dksX6_readAny_6 6 rfl rfl)
theorem dX6_readAny_147 : decode cX6_readAny 147 = .ok (.bipush 10, 2) := dk_16 10 (dk_at dksX6_readAny_6 7 rfl rfl)
theorem dX6_readAny_149 : decode cX6_readAny 149 = .ok (.invokevirtual 206, 3) := dk_182 0 206 (dk_at dksX6_readAny_6 9 rfl rfl)
theorem dX6_readAny_152 : decode cX6_readAny 152 = .ok (.aload_n 0, 1) := dk_42 (dk_at dksX6_readAny_6 12 rfl rfl)
theorem dX6_readAny_153 : decode cX6_readAny 153 = .ok (.bipush 11, 2) := dk_16 11 (dk_at dksX6_readAny_6 13 rfl rfl)
theorem dX6_readAny_155 : decode cX6_readAny 155 = .ok (.invokevirtual 206, 3) := dk_182 0 206 (dk_at dksX6_readAny_6 15 rfl rfl)
theorem dX6_readAny_158 : decode cX6_readAny 158 = .ok (.aload_n 0, 1) := dk_42 (dk_at dksX6_readAny_6 18 rfl rfl)
theorem dX6_readAny_159 : decode cX6_readAny 159 = .ok (.bipush 11, 2) := dk_16 11 (dk_at dksX6_readAny_6 19 rfl rfl)
theorem dX6_readAny_161 : decode cX6_readAny 161 = .ok (.invokevirtual 200, 3) := dk_182 0 200 (dk_at dksX6_readAny_6 21 rfl rfl)
theorem dX6_readAny_164 : decode cX6_readAny 164 = .ok (.aload_n 0, 1) := dk_42 (dk_at dksX6_readAny_7 0 rfl rfl)
theorem dX6_readAny_165 : decode cX6_readAny 165 = .ok (.invokevirtual 175, 3) := dk_182 0 175 (dk_at dksX6_readAny_7 1 rfl rfl)
theorem dX6_readAny_168 : decode cX6_readAny 168 = .ok (.iconst 1, 1) := dk_4 (dk_at dksX6_readAny_7 4 rfl rfl)
theorem dX6_readAny_169 : decode cX6_readAny 169 = .ok (.istore_n 2, 1) := dk_61 (dk_at dksX6_readAny_7 5 rfl rfl)
theorem dX6_readAny_170 : decode cX6_readAny 170 = .ok (.goto (-161), 3) := dk_167 255 95 (dk_at dksX6_readAny_7 6 rfl rfl)
theorem dX6_readAny_173 : decode cX6_readAny 173 = .ok (.aload_n 0, 1) := dk_42 (dk_at dksX6_readAny_7 9 rfl rfl)
theorem dX6_readAny_174 : decode cX6_readAny 174 = .ok (.bipush 10, 2) := dk_16 10 (dk_at dksX6_readAny_7 10 rfl rfl)
theorem dX6_readAny_176 : decode cX6_readAny 176 = .ok (.invokevirtual 206, 3) := dk_182 0 206 (dk_at dksX6_readAny_7 12 rfl rfl)
theorem dX6_readAny_179 : decode cX6_readAny 179 = .ok (.aload_n 0, 1) := dk_42 (dk_at dksX6_readAny_7 15 rfl rfl)
theorem dX6_readAny_180 : decode cX6_readAny 180 = .ok (.bipush 11, 2) := dk_16 11 (dk_at dksX6_readAny_7 16 rfl rfl)
theorem dX6_readAny_182 : decode cX6_readAny 182 = .ok (.invokevirtual 206, 3) := dk_182 0 206 (dk_at dksX6_readAny_7 18 rfl rfl)
theorem dX6_readAny_185 : decode cX6_readAny 185 = .ok (.iload_n 1, 1) := dk_27 (dk_at dksX6_readAny_7 21 rfl rfl)
theorem dX6_readAny_186 : decode cX6_readAny 186 = .ok (.ifCond .ne 5, 3) := dk_154 0 5 (dk_at dksX6_readAny_8 0 rfl rfl)
theorem dX6_readAny_189 : decode cX6_readAny 189 = .ok (.iconst 0, 1) := dk_3 (dk_at dksX6_readAny_8 3 rfl rfl)
theorem dX6_readAny_190 : decode cX6_readAny 190 = .ok (.ireturn, 1) := dk_172 (dk_at dksX6_readAny_8 4 rfl rfl)
theorem dX6_readAny_191 : decode cX6_readAny 191 = .ok (.aload_n 0, 1) := dk_42 (dk_at dksX6_readAny_8 5 rfl rfl)
theorem dX6_readAny_192 : decode cX6_readAny 192 = .ok (.bipush 41, 2) := dk_16 41 (dk_at dksX6_readAny_8 6 rfl rfl)
theorem dX6_readAny_194 : decode cX6_readAny 194 = .ok (.invokevirtual 182, 3) := dk_182 0 182 (dk_at dksX6_readAny_8 8 rfl rfl)
theorem dX6_readAny_197 : decode cX6_readAny 197 = .ok (.ifCond .ne 9, 3) := dk_154 0 9 (dk_at dksX6_readAny_8 11 rfl rfl)
theorem dX6_readAny_200 : decode cX6_readAny 200 = .ok (.aload_n 0, 1) := dk_42 (dk_at dksX6_readAny_8 14 rfl rfl)
theorem dX6_readAny_201 : decode cX6_readAny 201 = .ok (.iconst 1, 1) := dk_4 (dk_at dksX6_readAny_8 15 rfl rfl)
theorem dX6_readAny_202 : decode cX6_readAny 202 = .ok (.invokevirtual 168, 3) := dk_182 0 168 (dk_at dksX6_readAny_8 16 rfl rfl)
theorem dX6_readAny_205 : decode cX6_readAny 205 = .ok (.ireturn, 1) := dk_172 (dk_at dksX6_readAny_8 19 rfl rfl)
theorem dX6_readAny_206 : decode cX6_readAny 206 = .ok (.aload_n 0, 1) := dk_42 (dk_at dksX6_readAny_8 20 rfl rfl)
theorem dX6_readAny_207 : decode cX6_readAny 207 = .ok (.aload_n 0, 1) := dk_42 (dk_at dksX6_readAny_8 21 rfl rfl)
theorem dX6_readAny_208 : decode cX6_readAny 208 = .ok (.getfield 191, 3) := dk_180 0 191 (dk_at dksX6_readAny_9 0 rfl rfl)
theorem dX6_readAny_211 : decode cX6_readAny 211 = .ok (.iconst 1, 1) := dk_4 (dk_at dksX6_readAny_9 3 rfl rfl)
theorem dX6_readAny_212 : decode cX6_readAny 212 = .ok (.isub, 1) := dk_100 (dk_at dksX6_readAny_9 4 rfl rfl)
theorem dX6_readAny_213 : decode cX6_readAny 213 = .ok (.putfield 191, 3) := dk_181 0 191 (dk_at dksX6_readAny_9 5 rfl rfl)
theorem dX6_readAny_216 : decode cX6_readAny 216 = .ok (.iload_n 1, 1) := dk_27 (dk_at dksX6_readAny_9 8 rfl rfl)
theorem dX6_readAny_217 : decode cX6_readAny 217 = .ok (.iconst 1, 1) := dk_4 (dk_at dksX6_readAny_9 9 rfl rfl)
theorem dX6_readAny_218 : decode cX6_readAny 218 = .ok (.isub, 1) := dk_100 (dk_at dksX6_readAny_9 10 rfl rfl)
theorem dX6_readAny_219 : decode cX6_readAny 219 = .ok (.istore_n 1, 1) := dk_60 (dk_at dksX6_readAny_9 11 rfl rfl)
theorem dX6_readAny_220 : decode cX6_readAny 220 = .ok (.aload_n 0, 1) := dk_42 (dk_at dksX6_readAny_9 12 rfl rfl)
theorem dX6_readAny_221 : decode cX6_readAny 221 = .ok (.aload_n 0, 1) := dk_42 (dk_at dksX6_readAny_9 13 rfl rfl)
theorem dX6_readAny_222 : decode cX6_readAny 222 = .ok (.getfield 194, 3) := dk_180 0 194 (dk_at dksX6_readAny_9 14 rfl rfl)
theorem dX6_readAny_225 : decode cX6_readAny 225 = .ok (.iconst 1, 1) := dk_4 (dk_at dksX6_readAny_9 17 rfl rfl)
theorem dX6_readAny_226 : decode cX6_readAny 226 = .ok (.isub, 1) := dk_100 (dk_at dksX6_readAny_9 18 rfl rfl)
theorem dX6_readAny_227 : decode cX6_readAny 227 = .ok (.putfield 194, 3) := dk_181 0 194 (dk_at dksX6_readAny_9 19 rfl rfl)
theorem dX6_readAny_230 : decode cX6_readAny 230 = .ok (.aload_n 0, 1) := dk_42 (dk_at dksX6_readAny_9 22 rfl rfl)
theorem dX6_readAny_231 : decode cX6_readAny 231 = .ok (.bipush 9, 2) := dk_16 9 (dk_at dksX6_readAny_10 0 rfl rfl)
theorem dX6_readAny_233 : decode cX6_readAny 233 = .ok (.invokevirtual 206, 3) := dk_182 0 206 (dk_at dksX6_readAny_10 2 rfl rfl)
theorem dX6_readAny_236 : decode cX6_readAny 236 = .ok (.aload_n 0, 1) := dk_42 (dk_at dksX6_readAny_10 5 rfl rfl)
theorem dX6_readAny_237 : decode cX6_readAny 237 = .ok (.invokevirtual 175, 3) := dk_182 0 175 (dk_at dksX6_readAny_10 6 rfl rfl)
theorem dX6_readAny_240 : decode cX6_readAny 240 = .ok (.goto (-231), 3) := dk_167 255 25 (dk_at dksX6_readAny_10 9 rfl rfl)
abbrev cX6_isSign : ByteArray := prog_17_method_28_code
def yX6_isSign : MethodName := ⟨RX6, "isSign", "(I)Z"⟩
def dkwX6_isSign_0 : List UInt8 := [42, 180, 0, 137, 7, 160, 0, 15, 42, 180, 0, 140, 27, 160, 0, 7, 4, 167, 0, 4, 3, 172]
abbrev dktX6_isSign_0 : List UInt8 := dkwX6_isSign_0 ++ []
theorem dksX6_isSign_0 : cX6_isSign.data.toList.drop 0 = dktX6_isSign_0 := by decide +kernel
theorem dX6_isSign_0 : decode cX6_isSign 0 = .ok (.aload_n 0, 1) := dk_42 (dk_at dksX6_isSign_0 0 rfl rfl)
theorem dX6_isSign_1 : decode cX6_isSign 1 = .ok (.getfield 137, 3) := dk_180 0 137 (dk_at dksX6_isSign_0 1 rfl rfl)
theorem dX6_isSign_4 : decode cX6_isSign 4 = .ok (.iconst 4, 1) := dk_7 (dk_at dksX6_isSign_0 4 rfl rfl)
theorem dX6_isSign_5 : decode cX6_isSign 5 = .ok (.if_icmp .ne 15, 3) := dk_160 0 15 (dk_at dksX6_isSign_0 5 rfl rfl)
theorem dX6_isSign_8 : decode cX6_isSign 8 = .ok (.aload_n 0, 1) := dk_42 (dk_at dksX6_isSign_0 8 rfl rfl)
theorem dX6_isSign_9 : decode cX6_isSign 9 = .ok (.getfield 140, 3) := dk_180 0 140 (dk_at dksX6_isSign_0 9 rfl rfl)
theorem dX6_isSign_12 : decode cX6_isSign 12 = .ok (.iload_n 1, 1) := dk_27 (dk_at dksX6_isSign_0 12 rfl rfl)
theorem dX6_isSign_13 : decode cX6_isSign 13 = .ok (.if_icmp .ne 7, 3) := dk_160 0 7 (dk_at dksX6_isSign_0 13 rfl rfl)
theorem dX6_isSign_16 : decode cX6_isSign 16 = .ok (.iconst 1, 1) := dk_4 (dk_at dksX6_isSign_0 16 rfl rfl)
theorem dX6_isSign_17 : decode cX6_isSign 17 = .ok (.goto 4, 3) := dk_167 0 4 (dk_at dksX6_isSign_0 17 rfl rfl)
theorem dX6_isSign_20 : decode cX6_isSign 20 = .ok (.iconst 0, 1) := dk_3 (dk_at dksX6_isSign_0 20 rfl rfl)
theorem dX6_isSign_21 : decode cX6_isSign 21 = .ok (.ireturn, 1) := dk_172 (dk_at dksX6_isSign_0 21 rfl rfl)
abbrev cX6_waits : ByteArray := prog_17_method_34_code
def yX6_waits : MethodName := ⟨RX6, "waits", "(I)V"⟩
def dkwX6_waits_0 : List UInt8 := [42, 180, 0, 43, 42, 180, 0, 191, 27, 79, 42, 42, 180, 0, 191, 4, 96, 181, 0, 191, 177]
abbrev dktX6_waits_0 : List UInt8 := dkwX6_waits_0 ++ []
theorem dksX6_waits_0 : cX6_waits.data.toList.drop 0 = dktX6_waits_0 := by decide +kernel
theorem dX6_waits_0 : decode cX6_waits 0 = .ok (.aload_n 0, 1) := dk_42 (dk_at dksX6_waits_0 0 rfl rfl)
theorem dX6_waits_1 : decode cX6_waits 1 = .ok (.getfield 43, 3) := dk_180 0 43 (dk_at dksX6_waits_0 1 rfl rfl)
theorem dX6_waits_4 : decode cX6_waits 4 = .ok (.aload_n 0, 1) := dk_42 (dk_at dksX6_waits_0 4 rfl rfl)
theorem dX6_waits_5 : decode cX6_waits 5 = .ok (.getfield 191, 3) := dk_180 0 191 (dk_at dksX6_waits_0 5 rfl rfl)
theorem dX6_waits_8 : decode cX6_waits 8 = .ok (.iload_n 1, 1) := dk_27 (dk_at dksX6_waits_0 8 rfl rfl)
theorem dX6_waits_9 : decode cX6_waits 9 = .ok (.iastore, 1) := dk_79 (dk_at dksX6_waits_0 9 rfl rfl)
theorem dX6_waits_10 : decode cX6_waits 10 = .ok (.aload_n 0, 1) := dk_42 (dk_at dksX6_waits_0 10 rfl rfl)
theorem dX6_waits_11 : decode cX6_waits 11 = .ok (.aload_n 0, 1) := dk_42 (dk_at dksX6_waits_0 11 rfl rfl)
theorem dX6_waits_12 : decode cX6_waits 12 = .ok (.getfield 191, 3) := dk_180 0 191 (dk_at dksX6_waits_0 12 rfl rfl)
theorem dX6_waits_15 : decode cX6_waits 15 = .ok (.iconst 1, 1) := dk_4 (dk_at dksX6_waits_0 15 rfl rfl)
theorem dX6_waits_16 : decode cX6_waits 16 = .ok (.iadd, 1) := dk_96 (dk_at dksX6_waits_0 16 rfl rfl)
theorem dX6_waits_17 : decode cX6_waits 17 = .ok (.putfield 191, 3) := dk_181 0 191 (dk_at dksX6_waits_0 17 rfl rfl)
theorem dX6_waits_20 : decode cX6_waits 20 = .ok (.return_, 1) := dk_177 (dk_at dksX6_waits_0 20 rfl rfl)
abbrev cX6_readCompared : ByteArray := prog_17_method_33_code
def yX6_readCompared : MethodName := ⟨RX6, "readCompared", "()I"⟩
def dkwX6_readCompared_4 : List UInt8 := [182, 0, 171, 3, 172]
abbrev dktX6_readCompared_4 : List UInt8 := dkwX6_readCompared_4 ++ []
def dkwX6_readCompared_3 : List UInt8 := [167, 0, 5, 16, 8, 60, 42, 182, 0, 175, 42, 182, 0, 188, 2, 160, 0, 5, 2, 172, 42, 27, 3]
abbrev dktX6_readCompared_3 : List UInt8 := dkwX6_readCompared_3 ++ dktX6_readCompared_4
def dkwX6_readCompared_2 : List UInt8 := [180, 0, 140, 16, 60, 160, 0, 8, 16, 6, 167, 0, 19, 42, 180, 0, 140, 16, 61, 160, 0, 8, 16, 7]
abbrev dktX6_readCompared_2 : List UInt8 := dkwX6_readCompared_2 ++ dktX6_readCompared_3
def dkwX6_readCompared_1 : List UInt8 := [182, 0, 182, 154, 0, 18, 42, 16, 62, 182, 0, 182, 154, 0, 9, 42, 4, 182, 0, 168, 172, 42]
abbrev dktX6_readCompared_1 : List UInt8 := dkwX6_readCompared_1 ++ dktX6_readCompared_2
def dkwX6_readCompared_0 : List UInt8 := [42, 182, 0, 188, 2, 160, 0, 5, 2, 172, 42, 16, 60, 182, 0, 182, 154, 0, 27, 42, 16, 61]
abbrev dktX6_readCompared_0 : List UInt8 := dkwX6_readCompared_0 ++ dktX6_readCompared_1
theorem dksX6_readCompared_0 : cX6_readCompared.data.toList.drop 0 = dktX6_readCompared_0 := by decide +kernel
theorem dksX6_readCompared_1 : cX6_readCompared.data.toList.drop 22 = dktX6_readCompared_1 := dk_seg dksX6_readCompared_0 22 rfl rfl
theorem dksX6_readCompared_2 : cX6_readCompared.data.toList.drop 44 = dktX6_readCompared_2 := dk_seg dksX6_readCompared_1 22 rfl rfl
theorem dksX6_readCompared_3 : cX6_readCompared.data.toList.drop 68 = dktX6_readCompared_3 := dk_seg dksX6_readCompared_2 24 rfl rfl
theorem dksX6_readCompared_4 : cX6_readCompared.data.toList.drop 91 = dktX6_readCompared_4 := dk_seg dksX6_readCompared_3 23 rfl rfl
theorem dX6_readCompared_0 : decode cX6_readCompared 0 = .ok (.aload_n 0, 1) := dk_42 (dk_at dksX6_readCompared_0 0 rfl rfl)
theorem dX6_readCompared_1 : decode cX6_readCompared 1 = .ok (.invokevirtual 188, 3) := dk_182 0 188 (dk_at dksX6_readCompared_0 1 rfl rfl)
theorem dX6_readCompared_4 : decode cX6_readCompared 4 = .ok (.iconst (-1), 1) := dk_2 (dk_at dksX6_readCompared_0 4 rfl rfl)
theorem dX6_readCompared_5 : decode cX6_readCompared 5 = .ok (.if_icmp .ne 5, 3) := dk_160 0 5 (dk_at dksX6_readCompared_0 5 rfl rfl)
theorem dX6_readCompared_8 : decode cX6_readCompared 8 = .ok (.iconst (-1), 1) := dk_2 (dk_at dksX6_readCompared_0 8 rfl rfl)
theorem dX6_readCompared_9 : decode cX6_readCompared 9 = .ok (.ireturn, 1) := dk_172 (dk_at dksX6_readCompared_0 9 rfl rfl)
theorem dX6_readCompared_10 : decode cX6_readCompared 10 = .ok (.aload_n 0, 1) := dk_42 (dk_at dksX6_readCompared_0 10 rfl rfl)
theorem dX6_readCompared_11 : decode cX6_readCompared 11 = .ok (.bipush 60, 2) := dk_16 60 (dk_at dksX6_readCompared_0 11 rfl rfl)
theorem dX6_readCompared_13 : decode cX6_readCompared 13 = .ok (.invokevirtual 182, 3) := dk_182 0 182 (dk_at dksX6_readCompared_0 13 rfl rfl)
theorem dX6_readCompared_16 : decode cX6_readCompared 16 = .ok (.ifCond .ne 27, 3) := dk_154 0 27 (dk_at dksX6_readCompared_0 16 rfl rfl)
theorem dX6_readCompared_19 : decode cX6_readCompared 19 = .ok (.aload_n 0, 1) := dk_42 (dk_at dksX6_readCompared_0 19 rfl rfl)
theorem dX6_readCompared_20 : decode cX6_readCompared 20 = .ok (.bipush 61, 2) := dk_16 61 (dk_at dksX6_readCompared_0 20 rfl rfl)
theorem dX6_readCompared_22 : decode cX6_readCompared 22 = .ok (.invokevirtual 182, 3) := dk_182 0 182 (dk_at dksX6_readCompared_1 0 rfl rfl)
theorem dX6_readCompared_25 : decode cX6_readCompared 25 = .ok (.ifCond .ne 18, 3) := dk_154 0 18 (dk_at dksX6_readCompared_1 3 rfl rfl)
theorem dX6_readCompared_28 : decode cX6_readCompared 28 = .ok (.aload_n 0, 1) := dk_42 (dk_at dksX6_readCompared_1 6 rfl rfl)
theorem dX6_readCompared_29 : decode cX6_readCompared 29 = .ok (.bipush 62, 2) := dk_16 62 (dk_at dksX6_readCompared_1 7 rfl rfl)
theorem dX6_readCompared_31 : decode cX6_readCompared 31 = .ok (.invokevirtual 182, 3) := dk_182 0 182 (dk_at dksX6_readCompared_1 9 rfl rfl)
theorem dX6_readCompared_34 : decode cX6_readCompared 34 = .ok (.ifCond .ne 9, 3) := dk_154 0 9 (dk_at dksX6_readCompared_1 12 rfl rfl)
theorem dX6_readCompared_37 : decode cX6_readCompared 37 = .ok (.aload_n 0, 1) := dk_42 (dk_at dksX6_readCompared_1 15 rfl rfl)
theorem dX6_readCompared_38 : decode cX6_readCompared 38 = .ok (.iconst 1, 1) := dk_4 (dk_at dksX6_readCompared_1 16 rfl rfl)
theorem dX6_readCompared_39 : decode cX6_readCompared 39 = .ok (.invokevirtual 168, 3) := dk_182 0 168 (dk_at dksX6_readCompared_1 17 rfl rfl)
theorem dX6_readCompared_42 : decode cX6_readCompared 42 = .ok (.ireturn, 1) := dk_172 (dk_at dksX6_readCompared_1 20 rfl rfl)
theorem dX6_readCompared_43 : decode cX6_readCompared 43 = .ok (.aload_n 0, 1) := dk_42 (dk_at dksX6_readCompared_1 21 rfl rfl)
theorem dX6_readCompared_44 : decode cX6_readCompared 44 = .ok (.getfield 140, 3) := dk_180 0 140 (dk_at dksX6_readCompared_2 0 rfl rfl)
theorem dX6_readCompared_47 : decode cX6_readCompared 47 = .ok (.bipush 60, 2) := dk_16 60 (dk_at dksX6_readCompared_2 3 rfl rfl)
theorem dX6_readCompared_49 : decode cX6_readCompared 49 = .ok (.if_icmp .ne 8, 3) := dk_160 0 8 (dk_at dksX6_readCompared_2 5 rfl rfl)
theorem dX6_readCompared_52 : decode cX6_readCompared 52 = .ok (.bipush 6, 2) := dk_16 6 (dk_at dksX6_readCompared_2 8 rfl rfl)
theorem dX6_readCompared_54 : decode cX6_readCompared 54 = .ok (.goto 19, 3) := dk_167 0 19 (dk_at dksX6_readCompared_2 10 rfl rfl)
theorem dX6_readCompared_57 : decode cX6_readCompared 57 = .ok (.aload_n 0, 1) := dk_42 (dk_at dksX6_readCompared_2 13 rfl rfl)
theorem dX6_readCompared_58 : decode cX6_readCompared 58 = .ok (.getfield 140, 3) := dk_180 0 140 (dk_at dksX6_readCompared_2 14 rfl rfl)
theorem dX6_readCompared_61 : decode cX6_readCompared 61 = .ok (.bipush 61, 2) := dk_16 61 (dk_at dksX6_readCompared_2 17 rfl rfl)
theorem dX6_readCompared_63 : decode cX6_readCompared 63 = .ok (.if_icmp .ne 8, 3) := dk_160 0 8 (dk_at dksX6_readCompared_2 19 rfl rfl)
theorem dX6_readCompared_66 : decode cX6_readCompared 66 = .ok (.bipush 7, 2) := dk_16 7 (dk_at dksX6_readCompared_2 22 rfl rfl)
theorem dX6_readCompared_68 : decode cX6_readCompared 68 = .ok (.goto 5, 3) := dk_167 0 5 (dk_at dksX6_readCompared_3 0 rfl rfl)
theorem dX6_readCompared_71 : decode cX6_readCompared 71 = .ok (.bipush 8, 2) := dk_16 8 (dk_at dksX6_readCompared_3 3 rfl rfl)
theorem dX6_readCompared_73 : decode cX6_readCompared 73 = .ok (.istore_n 1, 1) := dk_60 (dk_at dksX6_readCompared_3 5 rfl rfl)
theorem dX6_readCompared_74 : decode cX6_readCompared 74 = .ok (.aload_n 0, 1) := dk_42 (dk_at dksX6_readCompared_3 6 rfl rfl)
theorem dX6_readCompared_75 : decode cX6_readCompared 75 = .ok (.invokevirtual 175, 3) := dk_182 0 175 (dk_at dksX6_readCompared_3 7 rfl rfl)
theorem dX6_readCompared_78 : decode cX6_readCompared 78 = .ok (.aload_n 0, 1) := dk_42 (dk_at dksX6_readCompared_3 10 rfl rfl)
theorem dX6_readCompared_79 : decode cX6_readCompared 79 = .ok (.invokevirtual 188, 3) := dk_182 0 188 (dk_at dksX6_readCompared_3 11 rfl rfl)
theorem dX6_readCompared_82 : decode cX6_readCompared 82 = .ok (.iconst (-1), 1) := dk_2 (dk_at dksX6_readCompared_3 14 rfl rfl)
theorem dX6_readCompared_83 : decode cX6_readCompared 83 = .ok (.if_icmp .ne 5, 3) := dk_160 0 5 (dk_at dksX6_readCompared_3 15 rfl rfl)
theorem dX6_readCompared_86 : decode cX6_readCompared 86 = .ok (.iconst (-1), 1) := dk_2 (dk_at dksX6_readCompared_3 18 rfl rfl)
theorem dX6_readCompared_87 : decode cX6_readCompared 87 = .ok (.ireturn, 1) := dk_172 (dk_at dksX6_readCompared_3 19 rfl rfl)
theorem dX6_readCompared_88 : decode cX6_readCompared 88 = .ok (.aload_n 0, 1) := dk_42 (dk_at dksX6_readCompared_3 20 rfl rfl)
theorem dX6_readCompared_89 : decode cX6_readCompared 89 = .ok (.iload_n 1, 1) := dk_27 (dk_at dksX6_readCompared_3 21 rfl rfl)
theorem dX6_readCompared_90 : decode cX6_readCompared 90 = .ok (.iconst 0, 1) := dk_3 (dk_at dksX6_readCompared_3 22 rfl rfl)
theorem dX6_readCompared_91 : decode cX6_readCompared 91 = .ok (.invokevirtual 171, 3) := dk_182 0 171 (dk_at dksX6_readCompared_4 0 rfl rfl)
theorem dX6_readCompared_94 : decode cX6_readCompared 94 = .ok (.iconst 0, 1) := dk_3 (dk_at dksX6_readCompared_4 3 rfl rfl)
theorem dX6_readCompared_95 : decode cX6_readCompared 95 = .ok (.ireturn, 1) := dk_172 (dk_at dksX6_readCompared_4 4 rfl rfl)
abbrev cX6_readSum : ByteArray := prog_17_method_32_code
def yX6_readSum : MethodName := ⟨RX6, "readSum", "()I"⟩
def dkwX6_readSum_2 : List UInt8 := [182, 0, 175, 42, 182, 0, 185, 2, 160, 0, 5, 2, 172, 42, 27, 3, 182, 0, 171, 167, 255, 203, 3, 172]
abbrev dktX6_readSum_2 : List UInt8 := dkwX6_readSum_2 ++ []
def dkwX6_readSum_1 : List UInt8 := [182, 0, 182, 153, 0, 41, 42, 180, 0, 140, 16, 43, 160, 0, 7, 5, 167, 0, 4, 6, 60, 42]
abbrev dktX6_readSum_1 : List UInt8 := dkwX6_readSum_1 ++ dktX6_readSum_2
def dkwX6_readSum_0 : List UInt8 := [42, 182, 0, 185, 2, 160, 0, 5, 2, 172, 42, 16, 43, 182, 0, 182, 154, 0, 12, 42, 16, 45]
abbrev dktX6_readSum_0 : List UInt8 := dkwX6_readSum_0 ++ dktX6_readSum_1
theorem dksX6_readSum_0 : cX6_readSum.data.toList.drop 0 = dktX6_readSum_0 := by decide +kernel
theorem dksX6_readSum_1 : cX6_readSum.data.toList.drop 22 = dktX6_readSum_1 := dk_seg dksX6_readSum_0 22 rfl rfl
theorem dksX6_readSum_2 : cX6_readSum.data.toList.drop 44 = dktX6_readSum_2 := dk_seg dksX6_readSum_1 22 rfl rfl
theorem dX6_readSum_0 : decode cX6_readSum 0 = .ok (.aload_n 0, 1) := dk_42 (dk_at dksX6_readSum_0 0 rfl rfl)
theorem dX6_readSum_1 : decode cX6_readSum 1 = .ok (.invokevirtual 185, 3) := dk_182 0 185 (dk_at dksX6_readSum_0 1 rfl rfl)
theorem dX6_readSum_4 : decode cX6_readSum 4 = .ok (.iconst (-1), 1) := dk_2 (dk_at dksX6_readSum_0 4 rfl rfl)
theorem dX6_readSum_5 : decode cX6_readSum 5 = .ok (.if_icmp .ne 5, 3) := dk_160 0 5 (dk_at dksX6_readSum_0 5 rfl rfl)
theorem dX6_readSum_8 : decode cX6_readSum 8 = .ok (.iconst (-1), 1) := dk_2 (dk_at dksX6_readSum_0 8 rfl rfl)
theorem dX6_readSum_9 : decode cX6_readSum 9 = .ok (.ireturn, 1) := dk_172 (dk_at dksX6_readSum_0 9 rfl rfl)
theorem dX6_readSum_10 : decode cX6_readSum 10 = .ok (.aload_n 0, 1) := dk_42 (dk_at dksX6_readSum_0 10 rfl rfl)
theorem dX6_readSum_11 : decode cX6_readSum 11 = .ok (.bipush 43, 2) := dk_16 43 (dk_at dksX6_readSum_0 11 rfl rfl)
theorem dX6_readSum_13 : decode cX6_readSum 13 = .ok (.invokevirtual 182, 3) := dk_182 0 182 (dk_at dksX6_readSum_0 13 rfl rfl)
theorem dX6_readSum_16 : decode cX6_readSum 16 = .ok (.ifCond .ne 12, 3) := dk_154 0 12 (dk_at dksX6_readSum_0 16 rfl rfl)
theorem dX6_readSum_19 : decode cX6_readSum 19 = .ok (.aload_n 0, 1) := dk_42 (dk_at dksX6_readSum_0 19 rfl rfl)
theorem dX6_readSum_20 : decode cX6_readSum 20 = .ok (.bipush 45, 2) := dk_16 45 (dk_at dksX6_readSum_0 20 rfl rfl)
theorem dX6_readSum_22 : decode cX6_readSum 22 = .ok (.invokevirtual 182, 3) := dk_182 0 182 (dk_at dksX6_readSum_1 0 rfl rfl)
theorem dX6_readSum_25 : decode cX6_readSum 25 = .ok (.ifCond .eq 41, 3) := dk_153 0 41 (dk_at dksX6_readSum_1 3 rfl rfl)
theorem dX6_readSum_28 : decode cX6_readSum 28 = .ok (.aload_n 0, 1) := dk_42 (dk_at dksX6_readSum_1 6 rfl rfl)
theorem dX6_readSum_29 : decode cX6_readSum 29 = .ok (.getfield 140, 3) := dk_180 0 140 (dk_at dksX6_readSum_1 7 rfl rfl)
theorem dX6_readSum_32 : decode cX6_readSum 32 = .ok (.bipush 43, 2) := dk_16 43 (dk_at dksX6_readSum_1 10 rfl rfl)
theorem dX6_readSum_34 : decode cX6_readSum 34 = .ok (.if_icmp .ne 7, 3) := dk_160 0 7 (dk_at dksX6_readSum_1 12 rfl rfl)
theorem dX6_readSum_37 : decode cX6_readSum 37 = .ok (.iconst 2, 1) := dk_5 (dk_at dksX6_readSum_1 15 rfl rfl)
theorem dX6_readSum_38 : decode cX6_readSum 38 = .ok (.goto 4, 3) := dk_167 0 4 (dk_at dksX6_readSum_1 16 rfl rfl)
theorem dX6_readSum_41 : decode cX6_readSum 41 = .ok (.iconst 3, 1) := dk_6 (dk_at dksX6_readSum_1 19 rfl rfl)
theorem dX6_readSum_42 : decode cX6_readSum 42 = .ok (.istore_n 1, 1) := dk_60 (dk_at dksX6_readSum_1 20 rfl rfl)
theorem dX6_readSum_43 : decode cX6_readSum 43 = .ok (.aload_n 0, 1) := dk_42 (dk_at dksX6_readSum_1 21 rfl rfl)
theorem dX6_readSum_44 : decode cX6_readSum 44 = .ok (.invokevirtual 175, 3) := dk_182 0 175 (dk_at dksX6_readSum_2 0 rfl rfl)
theorem dX6_readSum_47 : decode cX6_readSum 47 = .ok (.aload_n 0, 1) := dk_42 (dk_at dksX6_readSum_2 3 rfl rfl)
theorem dX6_readSum_48 : decode cX6_readSum 48 = .ok (.invokevirtual 185, 3) := dk_182 0 185 (dk_at dksX6_readSum_2 4 rfl rfl)
theorem dX6_readSum_51 : decode cX6_readSum 51 = .ok (.iconst (-1), 1) := dk_2 (dk_at dksX6_readSum_2 7 rfl rfl)
theorem dX6_readSum_52 : decode cX6_readSum 52 = .ok (.if_icmp .ne 5, 3) := dk_160 0 5 (dk_at dksX6_readSum_2 8 rfl rfl)
theorem dX6_readSum_55 : decode cX6_readSum 55 = .ok (.iconst (-1), 1) := dk_2 (dk_at dksX6_readSum_2 11 rfl rfl)
theorem dX6_readSum_56 : decode cX6_readSum 56 = .ok (.ireturn, 1) := dk_172 (dk_at dksX6_readSum_2 12 rfl rfl)
theorem dX6_readSum_57 : decode cX6_readSum 57 = .ok (.aload_n 0, 1) := dk_42 (dk_at dksX6_readSum_2 13 rfl rfl)
theorem dX6_readSum_58 : decode cX6_readSum 58 = .ok (.iload_n 1, 1) := dk_27 (dk_at dksX6_readSum_2 14 rfl rfl)
theorem dX6_readSum_59 : decode cX6_readSum 59 = .ok (.iconst 0, 1) := dk_3 (dk_at dksX6_readSum_2 15 rfl rfl)
theorem dX6_readSum_60 : decode cX6_readSum 60 = .ok (.invokevirtual 171, 3) := dk_182 0 171 (dk_at dksX6_readSum_2 16 rfl rfl)
theorem dX6_readSum_63 : decode cX6_readSum 63 = .ok (.goto (-53), 3) := dk_167 255 203 (dk_at dksX6_readSum_2 19 rfl rfl)
theorem dX6_readSum_66 : decode cX6_readSum 66 = .ok (.iconst 0, 1) := dk_3 (dk_at dksX6_readSum_2 22 rfl rfl)
theorem dX6_readSum_67 : decode cX6_readSum 67 = .ok (.ireturn, 1) := dk_172 (dk_at dksX6_readSum_2 23 rfl rfl)
abbrev cX6_readProduct : ByteArray := prog_17_method_31_code
def yX6_readProduct : MethodName := ⟨RX6, "readProduct", "()I"⟩
def dkwX6_readProduct_4 : List UInt8 := [167, 0, 4, 8, 3, 182, 0, 171, 167, 255, 168, 3, 172]
abbrev dktX6_readProduct_4 : List UInt8 := dkwX6_readProduct_4 ++ []
def dkwX6_readProduct_3 : List UInt8 := [42, 5, 182, 0, 168, 172, 42, 182, 0, 178, 2, 160, 0, 5, 2, 172, 42, 27, 153, 0, 7, 7]
abbrev dktX6_readProduct_3 : List UInt8 := dkwX6_readProduct_3 ++ dktX6_readProduct_4
def dkwX6_readProduct_2 : List UInt8 := [180, 0, 137, 6, 159, 0, 9, 42, 4, 182, 0, 168, 172, 27, 154, 0, 16, 42, 180, 0, 140, 154, 0, 9]
abbrev dktX6_readProduct_2 : List UInt8 := dkwX6_readProduct_2 ++ dktX6_readProduct_3
def dkwX6_readProduct_1 : List UInt8 := [182, 0, 182, 153, 0, 76, 42, 16, 42, 182, 0, 182, 60, 42, 182, 0, 175, 27, 154, 0, 17, 42]
abbrev dktX6_readProduct_1 : List UInt8 := dkwX6_readProduct_1 ++ dktX6_readProduct_2
def dkwX6_readProduct_0 : List UInt8 := [42, 182, 0, 178, 2, 160, 0, 5, 2, 172, 42, 16, 42, 182, 0, 182, 154, 0, 12, 42, 16, 47]
abbrev dktX6_readProduct_0 : List UInt8 := dkwX6_readProduct_0 ++ dktX6_readProduct_1
theorem dksX6_readProduct_0 : cX6_readProduct.data.toList.drop 0 = dktX6_readProduct_0 := by decide +kernel
theorem dksX6_readProduct_1 : cX6_readProduct.data.toList.drop 22 = dktX6_readProduct_1 := dk_seg dksX6_readProduct_0 22 rfl rfl
theorem dksX6_readProduct_2 : cX6_readProduct.data.toList.drop 44 = dktX6_readProduct_2 := dk_seg dksX6_readProduct_1 22 rfl rfl
theorem dksX6_readProduct_3 : cX6_readProduct.data.toList.drop 68 = dktX6_readProduct_3 := dk_seg dksX6_readProduct_2 24 rfl rfl
theorem dksX6_readProduct_4 : cX6_readProduct.data.toList.drop 90 = dktX6_readProduct_4 := dk_seg dksX6_readProduct_3 22 rfl rfl
theorem dX6_readProduct_0 : decode cX6_readProduct 0 = .ok (.aload_n 0, 1) := dk_42 (dk_at dksX6_readProduct_0 0 rfl rfl)
theorem dX6_readProduct_1 : decode cX6_readProduct 1 = .ok (.invokevirtual 178, 3) := dk_182 0 178 (dk_at dksX6_readProduct_0 1 rfl rfl)
theorem dX6_readProduct_4 : decode cX6_readProduct 4 = .ok (.iconst (-1), 1) := dk_2 (dk_at dksX6_readProduct_0 4 rfl rfl)
theorem dX6_readProduct_5 : decode cX6_readProduct 5 = .ok (.if_icmp .ne 5, 3) := dk_160 0 5 (dk_at dksX6_readProduct_0 5 rfl rfl)
theorem dX6_readProduct_8 : decode cX6_readProduct 8 = .ok (.iconst (-1), 1) := dk_2 (dk_at dksX6_readProduct_0 8 rfl rfl)
theorem dX6_readProduct_9 : decode cX6_readProduct 9 = .ok (.ireturn, 1) := dk_172 (dk_at dksX6_readProduct_0 9 rfl rfl)
theorem dX6_readProduct_10 : decode cX6_readProduct 10 = .ok (.aload_n 0, 1) := dk_42 (dk_at dksX6_readProduct_0 10 rfl rfl)
theorem dX6_readProduct_11 : decode cX6_readProduct 11 = .ok (.bipush 42, 2) := dk_16 42 (dk_at dksX6_readProduct_0 11 rfl rfl)
theorem dX6_readProduct_13 : decode cX6_readProduct 13 = .ok (.invokevirtual 182, 3) := dk_182 0 182 (dk_at dksX6_readProduct_0 13 rfl rfl)
theorem dX6_readProduct_16 : decode cX6_readProduct 16 = .ok (.ifCond .ne 12, 3) := dk_154 0 12 (dk_at dksX6_readProduct_0 16 rfl rfl)
theorem dX6_readProduct_19 : decode cX6_readProduct 19 = .ok (.aload_n 0, 1) := dk_42 (dk_at dksX6_readProduct_0 19 rfl rfl)
theorem dX6_readProduct_20 : decode cX6_readProduct 20 = .ok (.bipush 47, 2) := dk_16 47 (dk_at dksX6_readProduct_0 20 rfl rfl)
theorem dX6_readProduct_22 : decode cX6_readProduct 22 = .ok (.invokevirtual 182, 3) := dk_182 0 182 (dk_at dksX6_readProduct_1 0 rfl rfl)
theorem dX6_readProduct_25 : decode cX6_readProduct 25 = .ok (.ifCond .eq 76, 3) := dk_153 0 76 (dk_at dksX6_readProduct_1 3 rfl rfl)
theorem dX6_readProduct_28 : decode cX6_readProduct 28 = .ok (.aload_n 0, 1) := dk_42 (dk_at dksX6_readProduct_1 6 rfl rfl)
theorem dX6_readProduct_29 : decode cX6_readProduct 29 = .ok (.bipush 42, 2) := dk_16 42 (dk_at dksX6_readProduct_1 7 rfl rfl)
theorem dX6_readProduct_31 : decode cX6_readProduct 31 = .ok (.invokevirtual 182, 3) := dk_182 0 182 (dk_at dksX6_readProduct_1 9 rfl rfl)
theorem dX6_readProduct_34 : decode cX6_readProduct 34 = .ok (.istore_n 1, 1) := dk_60 (dk_at dksX6_readProduct_1 12 rfl rfl)
theorem dX6_readProduct_35 : decode cX6_readProduct 35 = .ok (.aload_n 0, 1) := dk_42 (dk_at dksX6_readProduct_1 13 rfl rfl)
theorem dX6_readProduct_36 : decode cX6_readProduct 36 = .ok (.invokevirtual 175, 3) := dk_182 0 175 (dk_at dksX6_readProduct_1 14 rfl rfl)
theorem dX6_readProduct_39 : decode cX6_readProduct 39 = .ok (.iload_n 1, 1) := dk_27 (dk_at dksX6_readProduct_1 17 rfl rfl)
theorem dX6_readProduct_40 : decode cX6_readProduct 40 = .ok (.ifCond .ne 17, 3) := dk_154 0 17 (dk_at dksX6_readProduct_1 18 rfl rfl)
theorem dX6_readProduct_43 : decode cX6_readProduct 43 = .ok (.aload_n 0, 1) := dk_42 (dk_at dksX6_readProduct_1 21 rfl rfl)
theorem dX6_readProduct_44 : decode cX6_readProduct 44 = .ok (.getfield 137, 3) := dk_180 0 137 (dk_at dksX6_readProduct_2 0 rfl rfl)
theorem dX6_readProduct_47 : decode cX6_readProduct 47 = .ok (.iconst 3, 1) := dk_6 (dk_at dksX6_readProduct_2 3 rfl rfl)
theorem dX6_readProduct_48 : decode cX6_readProduct 48 = .ok (.if_icmp .eq 9, 3) := dk_159 0 9 (dk_at dksX6_readProduct_2 4 rfl rfl)
theorem dX6_readProduct_51 : decode cX6_readProduct 51 = .ok (.aload_n 0, 1) := dk_42 (dk_at dksX6_readProduct_2 7 rfl rfl)
theorem dX6_readProduct_52 : decode cX6_readProduct 52 = .ok (.iconst 1, 1) := dk_4 (dk_at dksX6_readProduct_2 8 rfl rfl)
theorem dX6_readProduct_53 : decode cX6_readProduct 53 = .ok (.invokevirtual 168, 3) := dk_182 0 168 (dk_at dksX6_readProduct_2 9 rfl rfl)
theorem dX6_readProduct_56 : decode cX6_readProduct 56 = .ok (.ireturn, 1) := dk_172 (dk_at dksX6_readProduct_2 12 rfl rfl)
theorem dX6_readProduct_57 : decode cX6_readProduct 57 = .ok (.iload_n 1, 1) := dk_27 (dk_at dksX6_readProduct_2 13 rfl rfl)
theorem dX6_readProduct_58 : decode cX6_readProduct 58 = .ok (.ifCond .ne 16, 3) := dk_154 0 16 (dk_at dksX6_readProduct_2 14 rfl rfl)
theorem dX6_readProduct_61 : decode cX6_readProduct 61 = .ok (.aload_n 0, 1) := dk_42 (dk_at dksX6_readProduct_2 17 rfl rfl)
theorem dX6_readProduct_62 : decode cX6_readProduct 62 = .ok (.getfield 140, 3) := dk_180 0 140 (dk_at dksX6_readProduct_2 18 rfl rfl)
theorem dX6_readProduct_65 : decode cX6_readProduct 65 = .ok (.ifCond .ne 9, 3) := dk_154 0 9 (dk_at dksX6_readProduct_2 21 rfl rfl)
theorem dX6_readProduct_68 : decode cX6_readProduct 68 = .ok (.aload_n 0, 1) := dk_42 (dk_at dksX6_readProduct_3 0 rfl rfl)
theorem dX6_readProduct_69 : decode cX6_readProduct 69 = .ok (.iconst 2, 1) := dk_5 (dk_at dksX6_readProduct_3 1 rfl rfl)
theorem dX6_readProduct_70 : decode cX6_readProduct 70 = .ok (.invokevirtual 168, 3) := dk_182 0 168 (dk_at dksX6_readProduct_3 2 rfl rfl)
theorem dX6_readProduct_73 : decode cX6_readProduct 73 = .ok (.ireturn, 1) := dk_172 (dk_at dksX6_readProduct_3 5 rfl rfl)
theorem dX6_readProduct_74 : decode cX6_readProduct 74 = .ok (.aload_n 0, 1) := dk_42 (dk_at dksX6_readProduct_3 6 rfl rfl)
theorem dX6_readProduct_75 : decode cX6_readProduct 75 = .ok (.invokevirtual 178, 3) := dk_182 0 178 (dk_at dksX6_readProduct_3 7 rfl rfl)
theorem dX6_readProduct_78 : decode cX6_readProduct 78 = .ok (.iconst (-1), 1) := dk_2 (dk_at dksX6_readProduct_3 10 rfl rfl)
theorem dX6_readProduct_79 : decode cX6_readProduct 79 = .ok (.if_icmp .ne 5, 3) := dk_160 0 5 (dk_at dksX6_readProduct_3 11 rfl rfl)
theorem dX6_readProduct_82 : decode cX6_readProduct 82 = .ok (.iconst (-1), 1) := dk_2 (dk_at dksX6_readProduct_3 14 rfl rfl)
theorem dX6_readProduct_83 : decode cX6_readProduct 83 = .ok (.ireturn, 1) := dk_172 (dk_at dksX6_readProduct_3 15 rfl rfl)
theorem dX6_readProduct_84 : decode cX6_readProduct 84 = .ok (.aload_n 0, 1) := dk_42 (dk_at dksX6_readProduct_3 16 rfl rfl)
theorem dX6_readProduct_85 : decode cX6_readProduct 85 = .ok (.iload_n 1, 1) := dk_27 (dk_at dksX6_readProduct_3 17 rfl rfl)
theorem dX6_readProduct_86 : decode cX6_readProduct 86 = .ok (.ifCond .eq 7, 3) := dk_153 0 7 (dk_at dksX6_readProduct_3 18 rfl rfl)
theorem dX6_readProduct_89 : decode cX6_readProduct 89 = .ok (.iconst 4, 1) := dk_7 (dk_at dksX6_readProduct_3 21 rfl rfl)
theorem dX6_readProduct_90 : decode cX6_readProduct 90 = .ok (.goto 4, 3) := dk_167 0 4 (dk_at dksX6_readProduct_4 0 rfl rfl)
theorem dX6_readProduct_93 : decode cX6_readProduct 93 = .ok (.iconst 5, 1) := dk_8 (dk_at dksX6_readProduct_4 3 rfl rfl)
theorem dX6_readProduct_94 : decode cX6_readProduct 94 = .ok (.iconst 0, 1) := dk_3 (dk_at dksX6_readProduct_4 4 rfl rfl)
theorem dX6_readProduct_95 : decode cX6_readProduct 95 = .ok (.invokevirtual 171, 3) := dk_182 0 171 (dk_at dksX6_readProduct_4 5 rfl rfl)
theorem dX6_readProduct_98 : decode cX6_readProduct 98 = .ok (.goto (-88), 3) := dk_167 255 168 (dk_at dksX6_readProduct_4 8 rfl rfl)
theorem dX6_readProduct_101 : decode cX6_readProduct 101 = .ok (.iconst 0, 1) := dk_3 (dk_at dksX6_readProduct_4 11 rfl rfl)
theorem dX6_readProduct_102 : decode cX6_readProduct 102 = .ok (.ireturn, 1) := dk_172 (dk_at dksX6_readProduct_4 12 rfl rfl)
abbrev cX6_readUnit : ByteArray := prog_17_method_30_code
def yX6_readUnit : MethodName := ⟨RX6, "readUnit", "()I"⟩
def dkwX6_readUnit_3 : List UInt8 := [182, 0, 171, 42, 182, 0, 175, 3, 172]
abbrev dktX6_readUnit_3 : List UInt8 := dkwX6_readUnit_3 ++ []
def dkwX6_readUnit_2 : List UInt8 := [167, 0, 4, 3, 27, 153, 0, 13, 42, 180, 0, 140, 16, 7, 100, 167, 0, 7, 42, 180, 0, 140]
abbrev dktX6_readUnit_2 : List UInt8 := dkwX6_readUnit_2 ++ dktX6_readUnit_3
def dkwX6_readUnit_1 : List UInt8 := [154, 0, 17, 42, 180, 0, 137, 6, 159, 0, 9, 42, 4, 182, 0, 168, 172, 42, 27, 153, 0, 7, 4]
abbrev dktX6_readUnit_1 : List UInt8 := dkwX6_readUnit_1 ++ dktX6_readUnit_2
def dkwX6_readUnit_0 : List UInt8 := [42, 180, 0, 137, 5, 160, 0, 16, 42, 180, 0, 140, 16, 7, 161, 0, 7, 4, 167, 0, 4, 3, 60, 27]
abbrev dktX6_readUnit_0 : List UInt8 := dkwX6_readUnit_0 ++ dktX6_readUnit_1
theorem dksX6_readUnit_0 : cX6_readUnit.data.toList.drop 0 = dktX6_readUnit_0 := by decide +kernel
theorem dksX6_readUnit_1 : cX6_readUnit.data.toList.drop 24 = dktX6_readUnit_1 := dk_seg dksX6_readUnit_0 24 rfl rfl
theorem dksX6_readUnit_2 : cX6_readUnit.data.toList.drop 47 = dktX6_readUnit_2 := dk_seg dksX6_readUnit_1 23 rfl rfl
theorem dksX6_readUnit_3 : cX6_readUnit.data.toList.drop 69 = dktX6_readUnit_3 := dk_seg dksX6_readUnit_2 22 rfl rfl
theorem dX6_readUnit_0 : decode cX6_readUnit 0 = .ok (.aload_n 0, 1) := dk_42 (dk_at dksX6_readUnit_0 0 rfl rfl)
theorem dX6_readUnit_1 : decode cX6_readUnit 1 = .ok (.getfield 137, 3) := dk_180 0 137 (dk_at dksX6_readUnit_0 1 rfl rfl)
theorem dX6_readUnit_4 : decode cX6_readUnit 4 = .ok (.iconst 2, 1) := dk_5 (dk_at dksX6_readUnit_0 4 rfl rfl)
theorem dX6_readUnit_5 : decode cX6_readUnit 5 = .ok (.if_icmp .ne 16, 3) := dk_160 0 16 (dk_at dksX6_readUnit_0 5 rfl rfl)
theorem dX6_readUnit_8 : decode cX6_readUnit 8 = .ok (.aload_n 0, 1) := dk_42 (dk_at dksX6_readUnit_0 8 rfl rfl)
theorem dX6_readUnit_9 : decode cX6_readUnit 9 = .ok (.getfield 140, 3) := dk_180 0 140 (dk_at dksX6_readUnit_0 9 rfl rfl)
theorem dX6_readUnit_12 : decode cX6_readUnit 12 = .ok (.bipush 7, 2) := dk_16 7 (dk_at dksX6_readUnit_0 12 rfl rfl)
theorem dX6_readUnit_14 : decode cX6_readUnit 14 = .ok (.if_icmp .lt 7, 3) := dk_161 0 7 (dk_at dksX6_readUnit_0 14 rfl rfl)
theorem dX6_readUnit_17 : decode cX6_readUnit 17 = .ok (.iconst 1, 1) := dk_4 (dk_at dksX6_readUnit_0 17 rfl rfl)
theorem dX6_readUnit_18 : decode cX6_readUnit 18 = .ok (.goto 4, 3) := dk_167 0 4 (dk_at dksX6_readUnit_0 18 rfl rfl)
theorem dX6_readUnit_21 : decode cX6_readUnit 21 = .ok (.iconst 0, 1) := dk_3 (dk_at dksX6_readUnit_0 21 rfl rfl)
theorem dX6_readUnit_22 : decode cX6_readUnit 22 = .ok (.istore_n 1, 1) := dk_60 (dk_at dksX6_readUnit_0 22 rfl rfl)
theorem dX6_readUnit_23 : decode cX6_readUnit 23 = .ok (.iload_n 1, 1) := dk_27 (dk_at dksX6_readUnit_0 23 rfl rfl)
theorem dX6_readUnit_24 : decode cX6_readUnit 24 = .ok (.ifCond .ne 17, 3) := dk_154 0 17 (dk_at dksX6_readUnit_1 0 rfl rfl)
theorem dX6_readUnit_27 : decode cX6_readUnit 27 = .ok (.aload_n 0, 1) := dk_42 (dk_at dksX6_readUnit_1 3 rfl rfl)
theorem dX6_readUnit_28 : decode cX6_readUnit 28 = .ok (.getfield 137, 3) := dk_180 0 137 (dk_at dksX6_readUnit_1 4 rfl rfl)
theorem dX6_readUnit_31 : decode cX6_readUnit 31 = .ok (.iconst 3, 1) := dk_6 (dk_at dksX6_readUnit_1 7 rfl rfl)
theorem dX6_readUnit_32 : decode cX6_readUnit 32 = .ok (.if_icmp .eq 9, 3) := dk_159 0 9 (dk_at dksX6_readUnit_1 8 rfl rfl)
theorem dX6_readUnit_35 : decode cX6_readUnit 35 = .ok (.aload_n 0, 1) := dk_42 (dk_at dksX6_readUnit_1 11 rfl rfl)
theorem dX6_readUnit_36 : decode cX6_readUnit 36 = .ok (.iconst 1, 1) := dk_4 (dk_at dksX6_readUnit_1 12 rfl rfl)
theorem dX6_readUnit_37 : decode cX6_readUnit 37 = .ok (.invokevirtual 168, 3) := dk_182 0 168 (dk_at dksX6_readUnit_1 13 rfl rfl)
theorem dX6_readUnit_40 : decode cX6_readUnit 40 = .ok (.ireturn, 1) := dk_172 (dk_at dksX6_readUnit_1 16 rfl rfl)
theorem dX6_readUnit_41 : decode cX6_readUnit 41 = .ok (.aload_n 0, 1) := dk_42 (dk_at dksX6_readUnit_1 17 rfl rfl)
theorem dX6_readUnit_42 : decode cX6_readUnit 42 = .ok (.iload_n 1, 1) := dk_27 (dk_at dksX6_readUnit_1 18 rfl rfl)
theorem dX6_readUnit_43 : decode cX6_readUnit 43 = .ok (.ifCond .eq 7, 3) := dk_153 0 7 (dk_at dksX6_readUnit_1 19 rfl rfl)
theorem dX6_readUnit_46 : decode cX6_readUnit 46 = .ok (.iconst 1, 1) := dk_4 (dk_at dksX6_readUnit_1 22 rfl rfl)
theorem dX6_readUnit_47 : decode cX6_readUnit 47 = .ok (.goto 4, 3) := dk_167 0 4 (dk_at dksX6_readUnit_2 0 rfl rfl)
theorem dX6_readUnit_50 : decode cX6_readUnit 50 = .ok (.iconst 0, 1) := dk_3 (dk_at dksX6_readUnit_2 3 rfl rfl)
theorem dX6_readUnit_51 : decode cX6_readUnit 51 = .ok (.iload_n 1, 1) := dk_27 (dk_at dksX6_readUnit_2 4 rfl rfl)
theorem dX6_readUnit_52 : decode cX6_readUnit 52 = .ok (.ifCond .eq 13, 3) := dk_153 0 13 (dk_at dksX6_readUnit_2 5 rfl rfl)
theorem dX6_readUnit_55 : decode cX6_readUnit 55 = .ok (.aload_n 0, 1) := dk_42 (dk_at dksX6_readUnit_2 8 rfl rfl)
theorem dX6_readUnit_56 : decode cX6_readUnit 56 = .ok (.getfield 140, 3) := dk_180 0 140 (dk_at dksX6_readUnit_2 9 rfl rfl)
theorem dX6_readUnit_59 : decode cX6_readUnit 59 = .ok (.bipush 7, 2) := dk_16 7 (dk_at dksX6_readUnit_2 12 rfl rfl)
theorem dX6_readUnit_61 : decode cX6_readUnit 61 = .ok (.isub, 1) := dk_100 (dk_at dksX6_readUnit_2 14 rfl rfl)
theorem dX6_readUnit_62 : decode cX6_readUnit 62 = .ok (.goto 7, 3) := dk_167 0 7 (dk_at dksX6_readUnit_2 15 rfl rfl)
theorem dX6_readUnit_65 : decode cX6_readUnit 65 = .ok (.aload_n 0, 1) := dk_42 (dk_at dksX6_readUnit_2 18 rfl rfl)
theorem dX6_readUnit_66 : decode cX6_readUnit 66 = .ok (.getfield 140, 3) := dk_180 0 140 (dk_at dksX6_readUnit_2 19 rfl rfl)
theorem dX6_readUnit_69 : decode cX6_readUnit 69 = .ok (.invokevirtual 171, 3) := dk_182 0 171 (dk_at dksX6_readUnit_3 0 rfl rfl)
theorem dX6_readUnit_72 : decode cX6_readUnit 72 = .ok (.aload_n 0, 1) := dk_42 (dk_at dksX6_readUnit_3 3 rfl rfl)
theorem dX6_readUnit_73 : decode cX6_readUnit 73 = .ok (.invokevirtual 175, 3) := dk_182 0 175 (dk_at dksX6_readUnit_3 4 rfl rfl)
theorem dX6_readUnit_76 : decode cX6_readUnit 76 = .ok (.iconst 0, 1) := dk_3 (dk_at dksX6_readUnit_3 7 rfl rfl)
theorem dX6_readUnit_77 : decode cX6_readUnit 77 = .ok (.ireturn, 1) := dk_172 (dk_at dksX6_readUnit_3 8 rfl rfl)
abbrev cX6_emits : ByteArray := prog_17_method_29_code
def yX6_emits : MethodName := ⟨RX6, "emits", "(II)V"⟩
def dkwX6_emits_1 : List UInt8 := [180, 0, 165, 96, 28, 79, 42, 42, 180, 0, 165, 4, 96, 181, 0, 165, 177]
abbrev dktX6_emits_1 : List UInt8 := dkwX6_emits_1 ++ []
def dkwX6_emits_0 : List UInt8 := [42, 180, 0, 37, 17, 9, 96, 42, 180, 0, 165, 96, 27, 79, 42, 180, 0, 40, 17, 9, 96, 42]
abbrev dktX6_emits_0 : List UInt8 := dkwX6_emits_0 ++ dktX6_emits_1
theorem dksX6_emits_0 : cX6_emits.data.toList.drop 0 = dktX6_emits_0 := by decide +kernel
theorem dksX6_emits_1 : cX6_emits.data.toList.drop 22 = dktX6_emits_1 := dk_seg dksX6_emits_0 22 rfl rfl
theorem dX6_emits_0 : decode cX6_emits 0 = .ok (.aload_n 0, 1) := dk_42 (dk_at dksX6_emits_0 0 rfl rfl)
theorem dX6_emits_1 : decode cX6_emits 1 = .ok (.getfield 37, 3) := dk_180 0 37 (dk_at dksX6_emits_0 1 rfl rfl)
theorem dX6_emits_4 : decode cX6_emits 4 = .ok (.sipush 2400, 3) := dk_17 9 96 (dk_at dksX6_emits_0 4 rfl rfl)
theorem dX6_emits_7 : decode cX6_emits 7 = .ok (.aload_n 0, 1) := dk_42 (dk_at dksX6_emits_0 7 rfl rfl)
theorem dX6_emits_8 : decode cX6_emits 8 = .ok (.getfield 165, 3) := dk_180 0 165 (dk_at dksX6_emits_0 8 rfl rfl)
theorem dX6_emits_11 : decode cX6_emits 11 = .ok (.iadd, 1) := dk_96 (dk_at dksX6_emits_0 11 rfl rfl)
theorem dX6_emits_12 : decode cX6_emits 12 = .ok (.iload_n 1, 1) := dk_27 (dk_at dksX6_emits_0 12 rfl rfl)
theorem dX6_emits_13 : decode cX6_emits 13 = .ok (.iastore, 1) := dk_79 (dk_at dksX6_emits_0 13 rfl rfl)
theorem dX6_emits_14 : decode cX6_emits 14 = .ok (.aload_n 0, 1) := dk_42 (dk_at dksX6_emits_0 14 rfl rfl)
theorem dX6_emits_15 : decode cX6_emits 15 = .ok (.getfield 40, 3) := dk_180 0 40 (dk_at dksX6_emits_0 15 rfl rfl)
theorem dX6_emits_18 : decode cX6_emits 18 = .ok (.sipush 2400, 3) := dk_17 9 96 (dk_at dksX6_emits_0 18 rfl rfl)
theorem dX6_emits_21 : decode cX6_emits 21 = .ok (.aload_n 0, 1) := dk_42 (dk_at dksX6_emits_0 21 rfl rfl)
theorem dX6_emits_22 : decode cX6_emits 22 = .ok (.getfield 165, 3) := dk_180 0 165 (dk_at dksX6_emits_1 0 rfl rfl)
theorem dX6_emits_25 : decode cX6_emits 25 = .ok (.iadd, 1) := dk_96 (dk_at dksX6_emits_1 3 rfl rfl)
theorem dX6_emits_26 : decode cX6_emits 26 = .ok (.iload_n 2, 1) := dk_28 (dk_at dksX6_emits_1 4 rfl rfl)
theorem dX6_emits_27 : decode cX6_emits 27 = .ok (.iastore, 1) := dk_79 (dk_at dksX6_emits_1 5 rfl rfl)
theorem dX6_emits_28 : decode cX6_emits 28 = .ok (.aload_n 0, 1) := dk_42 (dk_at dksX6_emits_1 6 rfl rfl)
theorem dX6_emits_29 : decode cX6_emits 29 = .ok (.aload_n 0, 1) := dk_42 (dk_at dksX6_emits_1 7 rfl rfl)
theorem dX6_emits_30 : decode cX6_emits 30 = .ok (.getfield 165, 3) := dk_180 0 165 (dk_at dksX6_emits_1 8 rfl rfl)
theorem dX6_emits_33 : decode cX6_emits 33 = .ok (.iconst 1, 1) := dk_4 (dk_at dksX6_emits_1 11 rfl rfl)
theorem dX6_emits_34 : decode cX6_emits 34 = .ok (.iadd, 1) := dk_96 (dk_at dksX6_emits_1 12 rfl rfl)
theorem dX6_emits_35 : decode cX6_emits 35 = .ok (.putfield 165, 3) := dk_181 0 165 (dk_at dksX6_emits_1 13 rfl rfl)
theorem dX6_emits_38 : decode cX6_emits 38 = .ok (.return_, 1) := dk_177 (dk_at dksX6_emits_1 16 rfl rfl)
abbrev cX6_settles : ByteArray := prog_17_method_35_code
def yX6_settles : MethodName := ⟨RX6, "settles", "(I)V"⟩
def dkwX6_settles_2 : List UInt8 := [180, 0, 194, 4, 100, 181, 0, 194, 167, 255, 202, 177]
abbrev dktX6_settles_2 : List UInt8 := dkwX6_settles_2 ++ []
def dkwX6_settles_1 : List UInt8 := [180, 0, 191, 4, 100, 181, 0, 191, 42, 27, 3, 182, 0, 171, 27, 16, 9, 160, 255, 215, 42, 42]
abbrev dktX6_settles_1 : List UInt8 := dkwX6_settles_1 ++ dktX6_settles_2
def dkwX6_settles_0 : List UInt8 := [42, 180, 0, 191, 158, 0, 53, 42, 180, 0, 43, 42, 180, 0, 191, 4, 100, 46, 27, 160, 0, 38, 42, 42]
abbrev dktX6_settles_0 : List UInt8 := dkwX6_settles_0 ++ dktX6_settles_1
theorem dksX6_settles_0 : cX6_settles.data.toList.drop 0 = dktX6_settles_0 := by decide +kernel
theorem dksX6_settles_1 : cX6_settles.data.toList.drop 24 = dktX6_settles_1 := dk_seg dksX6_settles_0 24 rfl rfl
theorem dksX6_settles_2 : cX6_settles.data.toList.drop 46 = dktX6_settles_2 := dk_seg dksX6_settles_1 22 rfl rfl
theorem dX6_settles_0 : decode cX6_settles 0 = .ok (.aload_n 0, 1) := dk_42 (dk_at dksX6_settles_0 0 rfl rfl)
theorem dX6_settles_1 : decode cX6_settles 1 = .ok (.getfield 191, 3) := dk_180 0 191 (dk_at dksX6_settles_0 1 rfl rfl)
theorem dX6_settles_4 : decode cX6_settles 4 = .ok (.ifCond .le 53, 3) := dk_158 0 53 (dk_at dksX6_settles_0 4 rfl rfl)
theorem dX6_settles_7 : decode cX6_settles 7 = .ok (.aload_n 0, 1) := dk_42 (dk_at dksX6_settles_0 7 rfl rfl)
theorem dX6_settles_8 : decode cX6_settles 8 = .ok (.getfield 43, 3) := dk_180 0 43 (dk_at dksX6_settles_0 8 rfl rfl)
theorem dX6_settles_11 : decode cX6_settles 11 = .ok (.aload_n 0, 1) := dk_42 (dk_at dksX6_settles_0 11 rfl rfl)
theorem dX6_settles_12 : decode cX6_settles 12 = .ok (.getfield 191, 3) := dk_180 0 191 (dk_at dksX6_settles_0 12 rfl rfl)
theorem dX6_settles_15 : decode cX6_settles 15 = .ok (.iconst 1, 1) := dk_4 (dk_at dksX6_settles_0 15 rfl rfl)
theorem dX6_settles_16 : decode cX6_settles 16 = .ok (.isub, 1) := dk_100 (dk_at dksX6_settles_0 16 rfl rfl)
theorem dX6_settles_17 : decode cX6_settles 17 = .ok (.iaload, 1) := dk_46 (dk_at dksX6_settles_0 17 rfl rfl)
theorem dX6_settles_18 : decode cX6_settles 18 = .ok (.iload_n 1, 1) := dk_27 (dk_at dksX6_settles_0 18 rfl rfl)
theorem dX6_settles_19 : decode cX6_settles 19 = .ok (.if_icmp .ne 38, 3) := dk_160 0 38 (dk_at dksX6_settles_0 19 rfl rfl)
theorem dX6_settles_22 : decode cX6_settles 22 = .ok (.aload_n 0, 1) := dk_42 (dk_at dksX6_settles_0 22 rfl rfl)
theorem dX6_settles_23 : decode cX6_settles 23 = .ok (.aload_n 0, 1) := dk_42 (dk_at dksX6_settles_0 23 rfl rfl)
theorem dX6_settles_24 : decode cX6_settles 24 = .ok (.getfield 191, 3) := dk_180 0 191 (dk_at dksX6_settles_1 0 rfl rfl)
theorem dX6_settles_27 : decode cX6_settles 27 = .ok (.iconst 1, 1) := dk_4 (dk_at dksX6_settles_1 3 rfl rfl)
theorem dX6_settles_28 : decode cX6_settles 28 = .ok (.isub, 1) := dk_100 (dk_at dksX6_settles_1 4 rfl rfl)
theorem dX6_settles_29 : decode cX6_settles 29 = .ok (.putfield 191, 3) := dk_181 0 191 (dk_at dksX6_settles_1 5 rfl rfl)
theorem dX6_settles_32 : decode cX6_settles 32 = .ok (.aload_n 0, 1) := dk_42 (dk_at dksX6_settles_1 8 rfl rfl)
theorem dX6_settles_33 : decode cX6_settles 33 = .ok (.iload_n 1, 1) := dk_27 (dk_at dksX6_settles_1 9 rfl rfl)
theorem dX6_settles_34 : decode cX6_settles 34 = .ok (.iconst 0, 1) := dk_3 (dk_at dksX6_settles_1 10 rfl rfl)
theorem dX6_settles_35 : decode cX6_settles 35 = .ok (.invokevirtual 171, 3) := dk_182 0 171 (dk_at dksX6_settles_1 11 rfl rfl)
theorem dX6_settles_38 : decode cX6_settles 38 = .ok (.iload_n 1, 1) := dk_27 (dk_at dksX6_settles_1 14 rfl rfl)
theorem dX6_settles_39 : decode cX6_settles 39 = .ok (.bipush 9, 2) := dk_16 9 (dk_at dksX6_settles_1 15 rfl rfl)
theorem dX6_settles_41 : decode cX6_settles 41 = .ok (.if_icmp .ne (-41), 3) := dk_160 255 215 (dk_at dksX6_settles_1 17 rfl rfl)
theorem dX6_settles_44 : decode cX6_settles 44 = .ok (.aload_n 0, 1) := dk_42 (dk_at dksX6_settles_1 20 rfl rfl)
theorem dX6_settles_45 : decode cX6_settles 45 = .ok (.aload_n 0, 1) := dk_42 (dk_at dksX6_settles_1 21 rfl rfl)
theorem dX6_settles_46 : decode cX6_settles 46 = .ok (.getfield 194, 3) := dk_180 0 194 (dk_at dksX6_settles_2 0 rfl rfl)
theorem dX6_settles_49 : decode cX6_settles 49 = .ok (.iconst 1, 1) := dk_4 (dk_at dksX6_settles_2 3 rfl rfl)
theorem dX6_settles_50 : decode cX6_settles 50 = .ok (.isub, 1) := dk_100 (dk_at dksX6_settles_2 4 rfl rfl)
theorem dX6_settles_51 : decode cX6_settles 51 = .ok (.putfield 194, 3) := dk_181 0 194 (dk_at dksX6_settles_2 5 rfl rfl)
theorem dX6_settles_54 : decode cX6_settles 54 = .ok (.goto (-54), 3) := dk_167 255 202 (dk_at dksX6_settles_2 8 rfl rfl)
theorem dX6_settles_57 : decode cX6_settles 57 = .ok (.return_, 1) := dk_177 (dk_at dksX6_settles_2 11 rfl rfl)
abbrev cX6_fault : ByteArray := prog_17_method_39_code
def yX6_fault : MethodName := ⟨RX6, "fault", "(I)I"⟩
def dkwX6_fault_1 : List UInt8 := [180, 0, 46, 167, 0, 4, 2, 172]
abbrev dktX6_fault_1 : List UInt8 := dkwX6_fault_1 ++ []
def dkwX6_fault_0 : List UInt8 := [42, 3, 181, 0, 90, 27, 154, 0, 10, 42, 180, 0, 212, 167, 0, 16, 27, 4, 160, 0, 10, 42]
abbrev dktX6_fault_0 : List UInt8 := dkwX6_fault_0 ++ dktX6_fault_1
theorem dksX6_fault_0 : cX6_fault.data.toList.drop 0 = dktX6_fault_0 := by decide +kernel
theorem dksX6_fault_1 : cX6_fault.data.toList.drop 22 = dktX6_fault_1 := dk_seg dksX6_fault_0 22 rfl rfl
theorem dX6_fault_0 : decode cX6_fault 0 = .ok (.aload_n 0, 1) := dk_42 (dk_at dksX6_fault_0 0 rfl rfl)
theorem dX6_fault_1 : decode cX6_fault 1 = .ok (.iconst 0, 1) := dk_3 (dk_at dksX6_fault_0 1 rfl rfl)
theorem dX6_fault_2 : decode cX6_fault 2 = .ok (.putfield 90, 3) := dk_181 0 90 (dk_at dksX6_fault_0 2 rfl rfl)
theorem dX6_fault_5 : decode cX6_fault 5 = .ok (.iload_n 1, 1) := dk_27 (dk_at dksX6_fault_0 5 rfl rfl)
theorem dX6_fault_6 : decode cX6_fault 6 = .ok (.ifCond .ne 10, 3) := dk_154 0 10 (dk_at dksX6_fault_0 6 rfl rfl)
theorem dX6_fault_9 : decode cX6_fault 9 = .ok (.aload_n 0, 1) := dk_42 (dk_at dksX6_fault_0 9 rfl rfl)
theorem dX6_fault_10 : decode cX6_fault 10 = .ok (.getfield 212, 3) := dk_180 0 212 (dk_at dksX6_fault_0 10 rfl rfl)
theorem dX6_fault_13 : decode cX6_fault 13 = .ok (.goto 16, 3) := dk_167 0 16 (dk_at dksX6_fault_0 13 rfl rfl)
theorem dX6_fault_16 : decode cX6_fault 16 = .ok (.iload_n 1, 1) := dk_27 (dk_at dksX6_fault_0 16 rfl rfl)
theorem dX6_fault_17 : decode cX6_fault 17 = .ok (.iconst 1, 1) := dk_4 (dk_at dksX6_fault_0 17 rfl rfl)
theorem dX6_fault_18 : decode cX6_fault 18 = .ok (.if_icmp .ne 10, 3) := dk_160 0 10 (dk_at dksX6_fault_0 18 rfl rfl)
theorem dX6_fault_21 : decode cX6_fault 21 = .ok (.aload_n 0, 1) := dk_42 (dk_at dksX6_fault_0 21 rfl rfl)
theorem dX6_fault_22 : decode cX6_fault 22 = .ok (.getfield 46, 3) := dk_180 0 46 (dk_at dksX6_fault_1 0 rfl rfl)
theorem dX6_fault_25 : decode cX6_fault 25 = .ok (.goto 4, 3) := dk_167 0 4 (dk_at dksX6_fault_1 3 rfl rfl)
theorem dX6_fault_28 : decode cX6_fault 28 = .ok (.iconst (-1), 1) := dk_2 (dk_at dksX6_fault_1 6 rfl rfl)
theorem dX6_fault_29 : decode cX6_fault 29 = .ok (.ireturn, 1) := dk_172 (dk_at dksX6_fault_1 7 rfl rfl)
abbrev cX6_of : ByteArray := prog_17_method_47_code
def yX6_of : MethodName := ⟨RX6, "of", "(II)I"⟩
def dkwX6_of_1 : List UInt8 := [42, 27, 28, 182, 0, 101, 167, 0, 5, 18, 239, 172]
abbrev dktX6_of_1 : List UInt8 := dkwX6_of_1 ++ []
def dkwX6_of_0 : List UInt8 := [42, 3, 181, 0, 90, 42, 27, 182, 0, 113, 153, 0, 23, 42, 28, 3, 16, 8, 182, 0, 109, 153, 0, 12]
abbrev dktX6_of_0 : List UInt8 := dkwX6_of_0 ++ dktX6_of_1
theorem dksX6_of_0 : cX6_of.data.toList.drop 0 = dktX6_of_0 := by decide +kernel
theorem dksX6_of_1 : cX6_of.data.toList.drop 24 = dktX6_of_1 := dk_seg dksX6_of_0 24 rfl rfl
theorem dX6_of_0 : decode cX6_of 0 = .ok (.aload_n 0, 1) := dk_42 (dk_at dksX6_of_0 0 rfl rfl)
theorem dX6_of_1 : decode cX6_of 1 = .ok (.iconst 0, 1) := dk_3 (dk_at dksX6_of_0 1 rfl rfl)
theorem dX6_of_2 : decode cX6_of 2 = .ok (.putfield 90, 3) := dk_181 0 90 (dk_at dksX6_of_0 2 rfl rfl)
theorem dX6_of_5 : decode cX6_of 5 = .ok (.aload_n 0, 1) := dk_42 (dk_at dksX6_of_0 5 rfl rfl)
theorem dX6_of_6 : decode cX6_of 6 = .ok (.iload_n 1, 1) := dk_27 (dk_at dksX6_of_0 6 rfl rfl)
theorem dX6_of_7 : decode cX6_of 7 = .ok (.invokevirtual 113, 3) := dk_182 0 113 (dk_at dksX6_of_0 7 rfl rfl)
theorem dX6_of_10 : decode cX6_of 10 = .ok (.ifCond .eq 23, 3) := dk_153 0 23 (dk_at dksX6_of_0 10 rfl rfl)
theorem dX6_of_13 : decode cX6_of 13 = .ok (.aload_n 0, 1) := dk_42 (dk_at dksX6_of_0 13 rfl rfl)
theorem dX6_of_14 : decode cX6_of 14 = .ok (.iload_n 2, 1) := dk_28 (dk_at dksX6_of_0 14 rfl rfl)
theorem dX6_of_15 : decode cX6_of 15 = .ok (.iconst 0, 1) := dk_3 (dk_at dksX6_of_0 15 rfl rfl)
theorem dX6_of_16 : decode cX6_of 16 = .ok (.bipush 8, 2) := dk_16 8 (dk_at dksX6_of_0 16 rfl rfl)
theorem dX6_of_18 : decode cX6_of 18 = .ok (.invokevirtual 109, 3) := dk_182 0 109 (dk_at dksX6_of_0 18 rfl rfl)
theorem dX6_of_21 : decode cX6_of 21 = .ok (.ifCond .eq 12, 3) := dk_153 0 12 (dk_at dksX6_of_0 21 rfl rfl)
theorem dX6_of_24 : decode cX6_of 24 = .ok (.aload_n 0, 1) := dk_42 (dk_at dksX6_of_1 0 rfl rfl)
theorem dX6_of_25 : decode cX6_of 25 = .ok (.iload_n 1, 1) := dk_27 (dk_at dksX6_of_1 1 rfl rfl)
theorem dX6_of_26 : decode cX6_of 26 = .ok (.iload_n 2, 1) := dk_28 (dk_at dksX6_of_1 2 rfl rfl)
theorem dX6_of_27 : decode cX6_of 27 = .ok (.invokevirtual 101, 3) := dk_182 0 101 (dk_at dksX6_of_1 3 rfl rfl)
theorem dX6_of_30 : decode cX6_of 30 = .ok (.goto 5, 3) := dk_167 0 5 (dk_at dksX6_of_1 6 rfl rfl)
theorem dX6_of_33 : decode cX6_of 33 = .ok (.ldc 239, 2) := dk_18 239 (dk_at dksX6_of_1 9 rfl rfl)
theorem dX6_of_35 : decode cX6_of 35 = .ok (.ireturn, 1) := dk_172 (dk_at dksX6_of_1 11 rfl rfl)
abbrev cX6_fact : ByteArray := prog_17_method_8_code
def yX6_fact : MethodName := ⟨RX6, "fact", "(II)I"⟩
def dkwX6_fact_0 : List UInt8 := [42, 180, 0, 7, 16, 9, 27, 104, 28, 96, 46, 172]
abbrev dktX6_fact_0 : List UInt8 := dkwX6_fact_0 ++ []
theorem dksX6_fact_0 : cX6_fact.data.toList.drop 0 = dktX6_fact_0 := by decide +kernel
theorem dX6_fact_0 : decode cX6_fact 0 = .ok (.aload_n 0, 1) := dk_42 (dk_at dksX6_fact_0 0 rfl rfl)
theorem dX6_fact_1 : decode cX6_fact 1 = .ok (.getfield 7, 3) := dk_180 0 7 (dk_at dksX6_fact_0 1 rfl rfl)
theorem dX6_fact_4 : decode cX6_fact 4 = .ok (.bipush 9, 2) := dk_16 9 (dk_at dksX6_fact_0 4 rfl rfl)
theorem dX6_fact_6 : decode cX6_fact 6 = .ok (.iload_n 1, 1) := dk_27 (dk_at dksX6_fact_0 6 rfl rfl)
theorem dX6_fact_7 : decode cX6_fact 7 = .ok (.imul, 1) := dk_104 (dk_at dksX6_fact_0 7 rfl rfl)
theorem dX6_fact_8 : decode cX6_fact 8 = .ok (.iload_n 2, 1) := dk_28 (dk_at dksX6_fact_0 8 rfl rfl)
theorem dX6_fact_9 : decode cX6_fact 9 = .ok (.iadd, 1) := dk_96 (dk_at dksX6_fact_0 9 rfl rfl)
theorem dX6_fact_10 : decode cX6_fact 10 = .ok (.iaload, 1) := dk_46 (dk_at dksX6_fact_0 10 rfl rfl)
theorem dX6_fact_11 : decode cX6_fact 11 = .ok (.ireturn, 1) := dk_172 (dk_at dksX6_fact_0 11 rfl rfl)
abbrev cX6_would : ByteArray := prog_17_method_48_code
def yX6_would : MethodName := ⟨RX6, "would", "(IIII)I"⟩
def dkwX6_would_4 : List UInt8 := [3, 172]
abbrev dktX6_would_4 : List UInt8 := dkwX6_would_4 ++ []
def dkwX6_would_3 : List UInt8 := [29, 182, 0, 246, 167, 0, 9, 42, 27, 29, 182, 0, 232, 54, 5, 21, 5, 153, 0, 7, 4, 167, 0, 4]
abbrev dktX6_would_3 : List UInt8 := dkwX6_would_3 ++ dktX6_would_4
def dkwX6_would_2 : List UInt8 := [21, 4, 154, 0, 13, 42, 27, 28, 29, 182, 0, 243, 167, 0, 25, 21, 4, 4, 160, 0, 13, 42, 27, 28]
abbrev dktX6_would_2 : List UInt8 := dkwX6_would_2 ++ dktX6_would_3
def dkwX6_would_1 : List UInt8 := [159, 0, 22, 42, 29, 182, 0, 240, 153, 0, 14, 42, 21, 4, 3, 5, 182, 0, 109, 154, 0, 5, 2, 172]
abbrev dktX6_would_1 : List UInt8 := dkwX6_would_1 ++ dktX6_would_2
def dkwX6_would_0 : List UInt8 := [42, 3, 181, 0, 90, 42, 27, 182, 0, 113, 153, 0, 35, 42, 28, 182, 0, 113, 153, 0, 27, 27, 28]
abbrev dktX6_would_0 : List UInt8 := dkwX6_would_0 ++ dktX6_would_1
theorem dksX6_would_0 : cX6_would.data.toList.drop 0 = dktX6_would_0 := by decide +kernel
theorem dksX6_would_1 : cX6_would.data.toList.drop 23 = dktX6_would_1 := dk_seg dksX6_would_0 23 rfl rfl
theorem dksX6_would_2 : cX6_would.data.toList.drop 47 = dktX6_would_2 := dk_seg dksX6_would_1 24 rfl rfl
theorem dksX6_would_3 : cX6_would.data.toList.drop 71 = dktX6_would_3 := dk_seg dksX6_would_2 24 rfl rfl
theorem dksX6_would_4 : cX6_would.data.toList.drop 95 = dktX6_would_4 := dk_seg dksX6_would_3 24 rfl rfl
theorem dX6_would_0 : decode cX6_would 0 = .ok (.aload_n 0, 1) := dk_42 (dk_at dksX6_would_0 0 rfl rfl)
theorem dX6_would_1 : decode cX6_would 1 = .ok (.iconst 0, 1) := dk_3 (dk_at dksX6_would_0 1 rfl rfl)
theorem dX6_would_2 : decode cX6_would 2 = .ok (.putfield 90, 3) := dk_181 0 90 (dk_at dksX6_would_0 2 rfl rfl)
theorem dX6_would_5 : decode cX6_would 5 = .ok (.aload_n 0, 1) := dk_42 (dk_at dksX6_would_0 5 rfl rfl)
theorem dX6_would_6 : decode cX6_would 6 = .ok (.iload_n 1, 1) := dk_27 (dk_at dksX6_would_0 6 rfl rfl)
theorem dX6_would_7 : decode cX6_would 7 = .ok (.invokevirtual 113, 3) := dk_182 0 113 (dk_at dksX6_would_0 7 rfl rfl)
theorem dX6_would_10 : decode cX6_would 10 = .ok (.ifCond .eq 35, 3) := dk_153 0 35 (dk_at dksX6_would_0 10 rfl rfl)
theorem dX6_would_13 : decode cX6_would 13 = .ok (.aload_n 0, 1) := dk_42 (dk_at dksX6_would_0 13 rfl rfl)
theorem dX6_would_14 : decode cX6_would 14 = .ok (.iload_n 2, 1) := dk_28 (dk_at dksX6_would_0 14 rfl rfl)
theorem dX6_would_15 : decode cX6_would 15 = .ok (.invokevirtual 113, 3) := dk_182 0 113 (dk_at dksX6_would_0 15 rfl rfl)
theorem dX6_would_18 : decode cX6_would 18 = .ok (.ifCond .eq 27, 3) := dk_153 0 27 (dk_at dksX6_would_0 18 rfl rfl)
theorem dX6_would_21 : decode cX6_would 21 = .ok (.iload_n 1, 1) := dk_27 (dk_at dksX6_would_0 21 rfl rfl)
theorem dX6_would_22 : decode cX6_would 22 = .ok (.iload_n 2, 1) := dk_28 (dk_at dksX6_would_0 22 rfl rfl)
theorem dX6_would_23 : decode cX6_would 23 = .ok (.if_icmp .eq 22, 3) := dk_159 0 22 (dk_at dksX6_would_1 0 rfl rfl)
theorem dX6_would_26 : decode cX6_would 26 = .ok (.aload_n 0, 1) := dk_42 (dk_at dksX6_would_1 3 rfl rfl)
theorem dX6_would_27 : decode cX6_would 27 = .ok (.iload_n 3, 1) := dk_29 (dk_at dksX6_would_1 4 rfl rfl)
theorem dX6_would_28 : decode cX6_would 28 = .ok (.invokevirtual 240, 3) := dk_182 0 240 (dk_at dksX6_would_1 5 rfl rfl)
theorem dX6_would_31 : decode cX6_would 31 = .ok (.ifCond .eq 14, 3) := dk_153 0 14 (dk_at dksX6_would_1 8 rfl rfl)
theorem dX6_would_34 : decode cX6_would 34 = .ok (.aload_n 0, 1) := dk_42 (dk_at dksX6_would_1 11 rfl rfl)
theorem dX6_would_35 : decode cX6_would 35 = .ok (.iload 4, 2) := dk_21 4 (dk_at dksX6_would_1 12 rfl rfl)
theorem dX6_would_37 : decode cX6_would 37 = .ok (.iconst 0, 1) := dk_3 (dk_at dksX6_would_1 14 rfl rfl)
theorem dX6_would_38 : decode cX6_would 38 = .ok (.iconst 2, 1) := dk_5 (dk_at dksX6_would_1 15 rfl rfl)
theorem dX6_would_39 : decode cX6_would 39 = .ok (.invokevirtual 109, 3) := dk_182 0 109 (dk_at dksX6_would_1 16 rfl rfl)
theorem dX6_would_42 : decode cX6_would 42 = .ok (.ifCond .ne 5, 3) := dk_154 0 5 (dk_at dksX6_would_1 19 rfl rfl)
theorem dX6_would_45 : decode cX6_would 45 = .ok (.iconst (-1), 1) := dk_2 (dk_at dksX6_would_1 22 rfl rfl)
theorem dX6_would_46 : decode cX6_would 46 = .ok (.ireturn, 1) := dk_172 (dk_at dksX6_would_1 23 rfl rfl)
theorem dX6_would_47 : decode cX6_would 47 = .ok (.iload 4, 2) := dk_21 4 (dk_at dksX6_would_2 0 rfl rfl)
theorem dX6_would_49 : decode cX6_would 49 = .ok (.ifCond .ne 13, 3) := dk_154 0 13 (dk_at dksX6_would_2 2 rfl rfl)
theorem dX6_would_52 : decode cX6_would 52 = .ok (.aload_n 0, 1) := dk_42 (dk_at dksX6_would_2 5 rfl rfl)
theorem dX6_would_53 : decode cX6_would 53 = .ok (.iload_n 1, 1) := dk_27 (dk_at dksX6_would_2 6 rfl rfl)
theorem dX6_would_54 : decode cX6_would 54 = .ok (.iload_n 2, 1) := dk_28 (dk_at dksX6_would_2 7 rfl rfl)
theorem dX6_would_55 : decode cX6_would 55 = .ok (.iload_n 3, 1) := dk_29 (dk_at dksX6_would_2 8 rfl rfl)
theorem dX6_would_56 : decode cX6_would 56 = .ok (.invokevirtual 243, 3) := dk_182 0 243 (dk_at dksX6_would_2 9 rfl rfl)
theorem dX6_would_59 : decode cX6_would 59 = .ok (.goto 25, 3) := dk_167 0 25 (dk_at dksX6_would_2 12 rfl rfl)
theorem dX6_would_62 : decode cX6_would 62 = .ok (.iload 4, 2) := dk_21 4 (dk_at dksX6_would_2 15 rfl rfl)
theorem dX6_would_64 : decode cX6_would 64 = .ok (.iconst 1, 1) := dk_4 (dk_at dksX6_would_2 17 rfl rfl)
theorem dX6_would_65 : decode cX6_would 65 = .ok (.if_icmp .ne 13, 3) := dk_160 0 13 (dk_at dksX6_would_2 18 rfl rfl)
theorem dX6_would_68 : decode cX6_would 68 = .ok (.aload_n 0, 1) := dk_42 (dk_at dksX6_would_2 21 rfl rfl)
theorem dX6_would_69 : decode cX6_would 69 = .ok (.iload_n 1, 1) := dk_27 (dk_at dksX6_would_2 22 rfl rfl)
theorem dX6_would_70 : decode cX6_would 70 = .ok (.iload_n 2, 1) := dk_28 (dk_at dksX6_would_2 23 rfl rfl)
theorem dX6_would_71 : decode cX6_would 71 = .ok (.iload_n 3, 1) := dk_29 (dk_at dksX6_would_3 0 rfl rfl)
theorem dX6_would_72 : decode cX6_would 72 = .ok (.invokevirtual 246, 3) := dk_182 0 246 (dk_at dksX6_would_3 1 rfl rfl)
theorem dX6_would_75 : decode cX6_would 75 = .ok (.goto 9, 3) := dk_167 0 9 (dk_at dksX6_would_3 4 rfl rfl)
theorem dX6_would_78 : decode cX6_would 78 = .ok (.aload_n 0, 1) := dk_42 (dk_at dksX6_would_3 7 rfl rfl)
theorem dX6_would_79 : decode cX6_would 79 = .ok (.iload_n 1, 1) := dk_27 (dk_at dksX6_would_3 8 rfl rfl)
theorem dX6_would_80 : decode cX6_would 80 = .ok (.iload_n 3, 1) := dk_29 (dk_at dksX6_would_3 9 rfl rfl)
theorem dX6_would_81 : decode cX6_would 81 = .ok (.invokevirtual 232, 3) := dk_182 0 232 (dk_at dksX6_would_3 10 rfl rfl)
theorem dX6_would_84 : decode cX6_would 84 = .ok (.istore 5, 2) := dk_54 5 (dk_at dksX6_would_3 13 rfl rfl)
theorem dX6_would_86 : decode cX6_would 86 = .ok (.iload 5, 2) := dk_21 5 (dk_at dksX6_would_3 15 rfl rfl)
theorem dX6_would_88 : decode cX6_would 88 = .ok (.ifCond .eq 7, 3) := dk_153 0 7 (dk_at dksX6_would_3 17 rfl rfl)
theorem dX6_would_91 : decode cX6_would 91 = .ok (.iconst 1, 1) := dk_4 (dk_at dksX6_would_3 20 rfl rfl)
theorem dX6_would_92 : decode cX6_would 92 = .ok (.goto 4, 3) := dk_167 0 4 (dk_at dksX6_would_3 21 rfl rfl)
theorem dX6_would_95 : decode cX6_would 95 = .ok (.iconst 0, 1) := dk_3 (dk_at dksX6_would_4 0 rfl rfl)
theorem dX6_would_96 : decode cX6_would 96 = .ok (.ireturn, 1) := dk_172 (dk_at dksX6_would_4 1 rfl rfl)
abbrev cX6_isSize : ByteArray := prog_17_method_7_code
def yX6_isSize : MethodName := ⟨RX6, "isSize", "(I)Z"⟩
def dkwX6_isSize_0 : List UInt8 := [27, 4, 161, 0, 13, 27, 16, 12, 163, 0, 7, 4, 167, 0, 4, 3, 172]
abbrev dktX6_isSize_0 : List UInt8 := dkwX6_isSize_0 ++ []
theorem dksX6_isSize_0 : cX6_isSize.data.toList.drop 0 = dktX6_isSize_0 := by decide +kernel
theorem dX6_isSize_0 : decode cX6_isSize 0 = .ok (.iload_n 1, 1) := dk_27 (dk_at dksX6_isSize_0 0 rfl rfl)
theorem dX6_isSize_1 : decode cX6_isSize 1 = .ok (.iconst 1, 1) := dk_4 (dk_at dksX6_isSize_0 1 rfl rfl)
theorem dX6_isSize_2 : decode cX6_isSize 2 = .ok (.if_icmp .lt 13, 3) := dk_161 0 13 (dk_at dksX6_isSize_0 2 rfl rfl)
theorem dX6_isSize_5 : decode cX6_isSize 5 = .ok (.iload_n 1, 1) := dk_27 (dk_at dksX6_isSize_0 5 rfl rfl)
theorem dX6_isSize_6 : decode cX6_isSize 6 = .ok (.bipush 12, 2) := dk_16 12 (dk_at dksX6_isSize_0 6 rfl rfl)
theorem dX6_isSize_8 : decode cX6_isSize 8 = .ok (.if_icmp .gt 7, 3) := dk_163 0 7 (dk_at dksX6_isSize_0 8 rfl rfl)
theorem dX6_isSize_11 : decode cX6_isSize 11 = .ok (.iconst 1, 1) := dk_4 (dk_at dksX6_isSize_0 11 rfl rfl)
theorem dX6_isSize_12 : decode cX6_isSize 12 = .ok (.goto 4, 3) := dk_167 0 4 (dk_at dksX6_isSize_0 12 rfl rfl)
theorem dX6_isSize_15 : decode cX6_isSize 15 = .ok (.iconst 0, 1) := dk_3 (dk_at dksX6_isSize_0 15 rfl rfl)
theorem dX6_isSize_16 : decode cX6_isSize 16 = .ok (.ireturn, 1) := dk_172 (dk_at dksX6_isSize_0 16 rfl rfl)
abbrev cX6_isDealing : ByteArray := prog_17_method_45_code
def yX6_isDealing : MethodName := ⟨RX6, "isDealing", "(III)Z"⟩
def dkwX6_isDealing_0 : List UInt8 := [42, 27, 28, 29, 4, 4, 182, 0, 235, 172]
abbrev dktX6_isDealing_0 : List UInt8 := dkwX6_isDealing_0 ++ []
theorem dksX6_isDealing_0 : cX6_isDealing.data.toList.drop 0 = dktX6_isDealing_0 := by decide +kernel
theorem dX6_isDealing_0 : decode cX6_isDealing 0 = .ok (.aload_n 0, 1) := dk_42 (dk_at dksX6_isDealing_0 0 rfl rfl)
theorem dX6_isDealing_1 : decode cX6_isDealing 1 = .ok (.iload_n 1, 1) := dk_27 (dk_at dksX6_isDealing_0 1 rfl rfl)
theorem dX6_isDealing_2 : decode cX6_isDealing 2 = .ok (.iload_n 2, 1) := dk_28 (dk_at dksX6_isDealing_0 2 rfl rfl)
theorem dX6_isDealing_3 : decode cX6_isDealing 3 = .ok (.iload_n 3, 1) := dk_29 (dk_at dksX6_isDealing_0 3 rfl rfl)
theorem dX6_isDealing_4 : decode cX6_isDealing 4 = .ok (.iconst 1, 1) := dk_4 (dk_at dksX6_isDealing_0 4 rfl rfl)
theorem dX6_isDealing_5 : decode cX6_isDealing 5 = .ok (.iconst 1, 1) := dk_4 (dk_at dksX6_isDealing_0 5 rfl rfl)
theorem dX6_isDealing_6 : decode cX6_isDealing 6 = .ok (.invokevirtual 235, 3) := dk_182 0 235 (dk_at dksX6_isDealing_0 6 rfl rfl)
theorem dX6_isDealing_9 : decode cX6_isDealing 9 = .ok (.ireturn, 1) := dk_172 (dk_at dksX6_isDealing_0 9 rfl rfl)
abbrev cX6_tells : ByteArray := prog_17_method_44_code
def yX6_tells : MethodName := ⟨RX6, "tells", "(IIIIZ)Z"⟩
def dkwX6_tells_9 : List UInt8 := [153, 0, 5, 4, 172, 3, 54, 9, 132, 10, 1, 167, 255, 204, 21, 9, 172]
abbrev dktX6_tells_9 : List UInt8 := dkwX6_tells_9 ++ []
def dkwX6_tells_8 : List UInt8 := [180, 0, 28, 21, 10, 46, 21, 4, 159, 0, 6, 167, 0, 19, 42, 21, 8, 21, 10, 182, 0, 228]
abbrev dktX6_tells_8 : List UInt8 := dkwX6_tells_8 ++ dktX6_tells_9
def dkwX6_tells_7 : List UInt8 := [21, 8, 104, 54, 10, 21, 10, 16, 16, 21, 8, 104, 42, 180, 0, 25, 21, 8, 46, 96, 162, 0, 40, 42]
abbrev dktX6_tells_7 : List UInt8 := dkwX6_tells_7 ++ dktX6_tells_8
def dkwX6_tells_6 : List UInt8 := [27, 16, 7, 182, 0, 101, 79, 5, 42, 27, 3, 182, 0, 101, 96, 54, 8, 21, 5, 54, 9, 16, 16]
abbrev dktX6_tells_6 : List UInt8 := dkwX6_tells_6 ++ dktX6_tells_7
def dkwX6_tells_5 : List UInt8 := [180, 0, 50, 16, 12, 21, 6, 79, 42, 180, 0, 50, 16, 13, 21, 7, 79, 42, 180, 0, 50, 16, 14, 42]
abbrev dktX6_tells_5 : List UInt8 := dkwX6_tells_5 ++ dktX6_tells_6
def dkwX6_tells_4 : List UInt8 := [16, 10, 42, 28, 8, 182, 0, 101, 79, 42, 180, 0, 50, 16, 11, 42, 28, 4, 182, 0, 101, 79, 42]
abbrev dktX6_tells_4 : List UInt8 := dkwX6_tells_4 ++ dktX6_tells_5
def dkwX6_tells_3 : List UInt8 := [28, 6, 182, 0, 101, 79, 42, 180, 0, 50, 16, 9, 42, 28, 7, 182, 0, 101, 79, 42, 180, 0, 50]
abbrev dktX6_tells_3 : List UInt8 := dkwX6_tells_3 ++ dktX6_tells_4
def dkwX6_tells_2 : List UInt8 := [29, 182, 0, 225, 42, 180, 0, 50, 16, 7, 42, 28, 5, 182, 0, 101, 79, 42, 180, 0, 50, 16, 8, 42]
abbrev dktX6_tells_2 : List UInt8 := dkwX6_tells_2 ++ dktX6_tells_3
def dkwX6_tells_1 : List UInt8 := [167, 0, 4, 3, 54, 6, 42, 28, 29, 182, 0, 232, 153, 0, 7, 4, 167, 0, 4, 3, 54, 7, 42, 27]
abbrev dktX6_tells_1 : List UInt8 := dkwX6_tells_1 ++ dktX6_tells_2
def dkwX6_tells_0 : List UInt8 := [42, 27, 3, 182, 0, 101, 7, 160, 0, 6, 21, 5, 172, 42, 27, 29, 182, 0, 232, 153, 0, 7, 4]
abbrev dktX6_tells_0 : List UInt8 := dkwX6_tells_0 ++ dktX6_tells_1
theorem dksX6_tells_0 : cX6_tells.data.toList.drop 0 = dktX6_tells_0 := by decide +kernel
theorem dksX6_tells_1 : cX6_tells.data.toList.drop 23 = dktX6_tells_1 := dk_seg dksX6_tells_0 23 rfl rfl
theorem dksX6_tells_2 : cX6_tells.data.toList.drop 47 = dktX6_tells_2 := dk_seg dksX6_tells_1 24 rfl rfl
theorem dksX6_tells_3 : cX6_tells.data.toList.drop 71 = dktX6_tells_3 := dk_seg dksX6_tells_2 24 rfl rfl
theorem dksX6_tells_4 : cX6_tells.data.toList.drop 94 = dktX6_tells_4 := dk_seg dksX6_tells_3 23 rfl rfl
theorem dksX6_tells_5 : cX6_tells.data.toList.drop 117 = dktX6_tells_5 := dk_seg dksX6_tells_4 23 rfl rfl
theorem dksX6_tells_6 : cX6_tells.data.toList.drop 141 = dktX6_tells_6 := dk_seg dksX6_tells_5 24 rfl rfl
theorem dksX6_tells_7 : cX6_tells.data.toList.drop 164 = dktX6_tells_7 := dk_seg dksX6_tells_6 23 rfl rfl
theorem dksX6_tells_8 : cX6_tells.data.toList.drop 188 = dktX6_tells_8 := dk_seg dksX6_tells_7 24 rfl rfl
theorem dksX6_tells_9 : cX6_tells.data.toList.drop 210 = dktX6_tells_9 := dk_seg dksX6_tells_8 22 rfl rfl
theorem dX6_tells_0 : decode cX6_tells 0 = .ok (.aload_n 0, 1) := dk_42 (dk_at dksX6_tells_0 0 rfl rfl)
theorem dX6_tells_1 : decode cX6_tells 1 = .ok (.iload_n 1, 1) := dk_27 (dk_at dksX6_tells_0 1 rfl rfl)
theorem dX6_tells_2 : decode cX6_tells 2 = .ok (.iconst 0, 1) := dk_3 (dk_at dksX6_tells_0 2 rfl rfl)
theorem dX6_tells_3 : decode cX6_tells 3 = .ok (.invokevirtual 101, 3) := dk_182 0 101 (dk_at dksX6_tells_0 3 rfl rfl)
theorem dX6_tells_6 : decode cX6_tells 6 = .ok (.iconst 4, 1) := dk_7 (dk_at dksX6_tells_0 6 rfl rfl)
theorem dX6_tells_7 : decode cX6_tells 7 = .ok (.if_icmp .ne 6, 3) := dk_160 0 6 (dk_at dksX6_tells_0 7 rfl rfl)
theorem dX6_tells_10 : decode cX6_tells 10 = .ok (.iload 5, 2) := dk_21 5 (dk_at dksX6_tells_0 10 rfl rfl)
theorem dX6_tells_12 : decode cX6_tells 12 = .ok (.ireturn, 1) := dk_172 (dk_at dksX6_tells_0 12 rfl rfl)
theorem dX6_tells_13 : decode cX6_tells 13 = .ok (.aload_n 0, 1) := dk_42 (dk_at dksX6_tells_0 13 rfl rfl)
theorem dX6_tells_14 : decode cX6_tells 14 = .ok (.iload_n 1, 1) := dk_27 (dk_at dksX6_tells_0 14 rfl rfl)
theorem dX6_tells_15 : decode cX6_tells 15 = .ok (.iload_n 3, 1) := dk_29 (dk_at dksX6_tells_0 15 rfl rfl)
theorem dX6_tells_16 : decode cX6_tells 16 = .ok (.invokevirtual 232, 3) := dk_182 0 232 (dk_at dksX6_tells_0 16 rfl rfl)
theorem dX6_tells_19 : decode cX6_tells 19 = .ok (.ifCond .eq 7, 3) := dk_153 0 7 (dk_at dksX6_tells_0 19 rfl rfl)
theorem dX6_tells_22 : decode cX6_tells 22 = .ok (.iconst 1, 1) := dk_4 (dk_at dksX6_tells_0 22 rfl rfl)
theorem dX6_tells_23 : decode cX6_tells 23 = .ok (.goto 4, 3) := dk_167 0 4 (dk_at dksX6_tells_1 0 rfl rfl)
theorem dX6_tells_26 : decode cX6_tells 26 = .ok (.iconst 0, 1) := dk_3 (dk_at dksX6_tells_1 3 rfl rfl)
theorem dX6_tells_27 : decode cX6_tells 27 = .ok (.istore 6, 2) := dk_54 6 (dk_at dksX6_tells_1 4 rfl rfl)
theorem dX6_tells_29 : decode cX6_tells 29 = .ok (.aload_n 0, 1) := dk_42 (dk_at dksX6_tells_1 6 rfl rfl)
theorem dX6_tells_30 : decode cX6_tells 30 = .ok (.iload_n 2, 1) := dk_28 (dk_at dksX6_tells_1 7 rfl rfl)
theorem dX6_tells_31 : decode cX6_tells 31 = .ok (.iload_n 3, 1) := dk_29 (dk_at dksX6_tells_1 8 rfl rfl)
theorem dX6_tells_32 : decode cX6_tells 32 = .ok (.invokevirtual 232, 3) := dk_182 0 232 (dk_at dksX6_tells_1 9 rfl rfl)
theorem dX6_tells_35 : decode cX6_tells 35 = .ok (.ifCond .eq 7, 3) := dk_153 0 7 (dk_at dksX6_tells_1 12 rfl rfl)
theorem dX6_tells_38 : decode cX6_tells 38 = .ok (.iconst 1, 1) := dk_4 (dk_at dksX6_tells_1 15 rfl rfl)
theorem dX6_tells_39 : decode cX6_tells 39 = .ok (.goto 4, 3) := dk_167 0 4 (dk_at dksX6_tells_1 16 rfl rfl)
theorem dX6_tells_42 : decode cX6_tells 42 = .ok (.iconst 0, 1) := dk_3 (dk_at dksX6_tells_1 19 rfl rfl)
theorem dX6_tells_43 : decode cX6_tells 43 = .ok (.istore 7, 2) := dk_54 7 (dk_at dksX6_tells_1 20 rfl rfl)
theorem dX6_tells_45 : decode cX6_tells 45 = .ok (.aload_n 0, 1) := dk_42 (dk_at dksX6_tells_1 22 rfl rfl)
theorem dX6_tells_46 : decode cX6_tells 46 = .ok (.iload_n 1, 1) := dk_27 (dk_at dksX6_tells_1 23 rfl rfl)
theorem dX6_tells_47 : decode cX6_tells 47 = .ok (.iload_n 3, 1) := dk_29 (dk_at dksX6_tells_2 0 rfl rfl)
theorem dX6_tells_48 : decode cX6_tells 48 = .ok (.invokevirtual 225, 3) := dk_182 0 225 (dk_at dksX6_tells_2 1 rfl rfl)
theorem dX6_tells_51 : decode cX6_tells 51 = .ok (.aload_n 0, 1) := dk_42 (dk_at dksX6_tells_2 4 rfl rfl)
theorem dX6_tells_52 : decode cX6_tells 52 = .ok (.getfield 50, 3) := dk_180 0 50 (dk_at dksX6_tells_2 5 rfl rfl)
theorem dX6_tells_55 : decode cX6_tells 55 = .ok (.bipush 7, 2) := dk_16 7 (dk_at dksX6_tells_2 8 rfl rfl)
theorem dX6_tells_57 : decode cX6_tells 57 = .ok (.aload_n 0, 1) := dk_42 (dk_at dksX6_tells_2 10 rfl rfl)
theorem dX6_tells_58 : decode cX6_tells 58 = .ok (.iload_n 2, 1) := dk_28 (dk_at dksX6_tells_2 11 rfl rfl)
theorem dX6_tells_59 : decode cX6_tells 59 = .ok (.iconst 2, 1) := dk_5 (dk_at dksX6_tells_2 12 rfl rfl)
theorem dX6_tells_60 : decode cX6_tells 60 = .ok (.invokevirtual 101, 3) := dk_182 0 101 (dk_at dksX6_tells_2 13 rfl rfl)
theorem dX6_tells_63 : decode cX6_tells 63 = .ok (.iastore, 1) := dk_79 (dk_at dksX6_tells_2 16 rfl rfl)
theorem dX6_tells_64 : decode cX6_tells 64 = .ok (.aload_n 0, 1) := dk_42 (dk_at dksX6_tells_2 17 rfl rfl)
theorem dX6_tells_65 : decode cX6_tells 65 = .ok (.getfield 50, 3) := dk_180 0 50 (dk_at dksX6_tells_2 18 rfl rfl)
theorem dX6_tells_68 : decode cX6_tells 68 = .ok (.bipush 8, 2) := dk_16 8 (dk_at dksX6_tells_2 21 rfl rfl)
theorem dX6_tells_70 : decode cX6_tells 70 = .ok (.aload_n 0, 1) := dk_42 (dk_at dksX6_tells_2 23 rfl rfl)
theorem dX6_tells_71 : decode cX6_tells 71 = .ok (.iload_n 2, 1) := dk_28 (dk_at dksX6_tells_3 0 rfl rfl)
theorem dX6_tells_72 : decode cX6_tells 72 = .ok (.iconst 3, 1) := dk_6 (dk_at dksX6_tells_3 1 rfl rfl)
theorem dX6_tells_73 : decode cX6_tells 73 = .ok (.invokevirtual 101, 3) := dk_182 0 101 (dk_at dksX6_tells_3 2 rfl rfl)
theorem dX6_tells_76 : decode cX6_tells 76 = .ok (.iastore, 1) := dk_79 (dk_at dksX6_tells_3 5 rfl rfl)
theorem dX6_tells_77 : decode cX6_tells 77 = .ok (.aload_n 0, 1) := dk_42 (dk_at dksX6_tells_3 6 rfl rfl)
theorem dX6_tells_78 : decode cX6_tells 78 = .ok (.getfield 50, 3) := dk_180 0 50 (dk_at dksX6_tells_3 7 rfl rfl)
theorem dX6_tells_81 : decode cX6_tells 81 = .ok (.bipush 9, 2) := dk_16 9 (dk_at dksX6_tells_3 10 rfl rfl)
theorem dX6_tells_83 : decode cX6_tells 83 = .ok (.aload_n 0, 1) := dk_42 (dk_at dksX6_tells_3 12 rfl rfl)
theorem dX6_tells_84 : decode cX6_tells 84 = .ok (.iload_n 2, 1) := dk_28 (dk_at dksX6_tells_3 13 rfl rfl)
theorem dX6_tells_85 : decode cX6_tells 85 = .ok (.iconst 4, 1) := dk_7 (dk_at dksX6_tells_3 14 rfl rfl)
theorem dX6_tells_86 : decode cX6_tells 86 = .ok (.invokevirtual 101, 3) := dk_182 0 101 (dk_at dksX6_tells_3 15 rfl rfl)
theorem dX6_tells_89 : decode cX6_tells 89 = .ok (.iastore, 1) := dk_79 (dk_at dksX6_tells_3 18 rfl rfl)
theorem dX6_tells_90 : decode cX6_tells 90 = .ok (.aload_n 0, 1) := dk_42 (dk_at dksX6_tells_3 19 rfl rfl)
theorem dX6_tells_91 : decode cX6_tells 91 = .ok (.getfield 50, 3) := dk_180 0 50 (dk_at dksX6_tells_3 20 rfl rfl)
theorem dX6_tells_94 : decode cX6_tells 94 = .ok (.bipush 10, 2) := dk_16 10 (dk_at dksX6_tells_4 0 rfl rfl)
theorem dX6_tells_96 : decode cX6_tells 96 = .ok (.aload_n 0, 1) := dk_42 (dk_at dksX6_tells_4 2 rfl rfl)
theorem dX6_tells_97 : decode cX6_tells 97 = .ok (.iload_n 2, 1) := dk_28 (dk_at dksX6_tells_4 3 rfl rfl)
theorem dX6_tells_98 : decode cX6_tells 98 = .ok (.iconst 5, 1) := dk_8 (dk_at dksX6_tells_4 4 rfl rfl)
theorem dX6_tells_99 : decode cX6_tells 99 = .ok (.invokevirtual 101, 3) := dk_182 0 101 (dk_at dksX6_tells_4 5 rfl rfl)
theorem dX6_tells_102 : decode cX6_tells 102 = .ok (.iastore, 1) := dk_79 (dk_at dksX6_tells_4 8 rfl rfl)
theorem dX6_tells_103 : decode cX6_tells 103 = .ok (.aload_n 0, 1) := dk_42 (dk_at dksX6_tells_4 9 rfl rfl)
theorem dX6_tells_104 : decode cX6_tells 104 = .ok (.getfield 50, 3) := dk_180 0 50 (dk_at dksX6_tells_4 10 rfl rfl)
theorem dX6_tells_107 : decode cX6_tells 107 = .ok (.bipush 11, 2) := dk_16 11 (dk_at dksX6_tells_4 13 rfl rfl)
theorem dX6_tells_109 : decode cX6_tells 109 = .ok (.aload_n 0, 1) := dk_42 (dk_at dksX6_tells_4 15 rfl rfl)
theorem dX6_tells_110 : decode cX6_tells 110 = .ok (.iload_n 2, 1) := dk_28 (dk_at dksX6_tells_4 16 rfl rfl)
theorem dX6_tells_111 : decode cX6_tells 111 = .ok (.iconst 1, 1) := dk_4 (dk_at dksX6_tells_4 17 rfl rfl)
theorem dX6_tells_112 : decode cX6_tells 112 = .ok (.invokevirtual 101, 3) := dk_182 0 101 (dk_at dksX6_tells_4 18 rfl rfl)
theorem dX6_tells_115 : decode cX6_tells 115 = .ok (.iastore, 1) := dk_79 (dk_at dksX6_tells_4 21 rfl rfl)
theorem dX6_tells_116 : decode cX6_tells 116 = .ok (.aload_n 0, 1) := dk_42 (dk_at dksX6_tells_4 22 rfl rfl)
theorem dX6_tells_117 : decode cX6_tells 117 = .ok (.getfield 50, 3) := dk_180 0 50 (dk_at dksX6_tells_5 0 rfl rfl)
theorem dX6_tells_120 : decode cX6_tells 120 = .ok (.bipush 12, 2) := dk_16 12 (dk_at dksX6_tells_5 3 rfl rfl)
theorem dX6_tells_122 : decode cX6_tells 122 = .ok (.iload 6, 2) := dk_21 6 (dk_at dksX6_tells_5 5 rfl rfl)
theorem dX6_tells_124 : decode cX6_tells 124 = .ok (.iastore, 1) := dk_79 (dk_at dksX6_tells_5 7 rfl rfl)
theorem dX6_tells_125 : decode cX6_tells 125 = .ok (.aload_n 0, 1) := dk_42 (dk_at dksX6_tells_5 8 rfl rfl)
theorem dX6_tells_126 : decode cX6_tells 126 = .ok (.getfield 50, 3) := dk_180 0 50 (dk_at dksX6_tells_5 9 rfl rfl)
theorem dX6_tells_129 : decode cX6_tells 129 = .ok (.bipush 13, 2) := dk_16 13 (dk_at dksX6_tells_5 12 rfl rfl)
theorem dX6_tells_131 : decode cX6_tells 131 = .ok (.iload 7, 2) := dk_21 7 (dk_at dksX6_tells_5 14 rfl rfl)
theorem dX6_tells_133 : decode cX6_tells 133 = .ok (.iastore, 1) := dk_79 (dk_at dksX6_tells_5 16 rfl rfl)
theorem dX6_tells_134 : decode cX6_tells 134 = .ok (.aload_n 0, 1) := dk_42 (dk_at dksX6_tells_5 17 rfl rfl)
theorem dX6_tells_135 : decode cX6_tells 135 = .ok (.getfield 50, 3) := dk_180 0 50 (dk_at dksX6_tells_5 18 rfl rfl)
theorem dX6_tells_138 : decode cX6_tells 138 = .ok (.bipush 14, 2) := dk_16 14 (dk_at dksX6_tells_5 21 rfl rfl)
theorem dX6_tells_140 : decode cX6_tells 140 = .ok (.aload_n 0, 1) := dk_42 (dk_at dksX6_tells_5 23 rfl rfl)
theorem dX6_tells_141 : decode cX6_tells 141 = .ok (.iload_n 1, 1) := dk_27 (dk_at dksX6_tells_6 0 rfl rfl)
theorem dX6_tells_142 : decode cX6_tells 142 = .ok (.bipush 7, 2) := dk_16 7 (dk_at dksX6_tells_6 1 rfl rfl)
theorem dX6_tells_144 : decode cX6_tells 144 = .ok (.invokevirtual 101, 3) := dk_182 0 101 (dk_at dksX6_tells_6 3 rfl rfl)
theorem dX6_tells_147 : decode cX6_tells 147 = .ok (.iastore, 1) := dk_79 (dk_at dksX6_tells_6 6 rfl rfl)
theorem dX6_tells_148 : decode cX6_tells 148 = .ok (.iconst 2, 1) := dk_5 (dk_at dksX6_tells_6 7 rfl rfl)
theorem dX6_tells_149 : decode cX6_tells 149 = .ok (.aload_n 0, 1) := dk_42 (dk_at dksX6_tells_6 8 rfl rfl)
theorem dX6_tells_150 : decode cX6_tells 150 = .ok (.iload_n 1, 1) := dk_27 (dk_at dksX6_tells_6 9 rfl rfl)
theorem dX6_tells_151 : decode cX6_tells 151 = .ok (.iconst 0, 1) := dk_3 (dk_at dksX6_tells_6 10 rfl rfl)
theorem dX6_tells_152 : decode cX6_tells 152 = .ok (.invokevirtual 101, 3) := dk_182 0 101 (dk_at dksX6_tells_6 11 rfl rfl)
theorem dX6_tells_155 : decode cX6_tells 155 = .ok (.iadd, 1) := dk_96 (dk_at dksX6_tells_6 14 rfl rfl)
theorem dX6_tells_156 : decode cX6_tells 156 = .ok (.istore 8, 2) := dk_54 8 (dk_at dksX6_tells_6 15 rfl rfl)
theorem dX6_tells_158 : decode cX6_tells 158 = .ok (.iload 5, 2) := dk_21 5 (dk_at dksX6_tells_6 17 rfl rfl)
theorem dX6_tells_160 : decode cX6_tells 160 = .ok (.istore 9, 2) := dk_54 9 (dk_at dksX6_tells_6 19 rfl rfl)
theorem dX6_tells_162 : decode cX6_tells 162 = .ok (.bipush 16, 2) := dk_16 16 (dk_at dksX6_tells_6 21 rfl rfl)
theorem dX6_tells_164 : decode cX6_tells 164 = .ok (.iload 8, 2) := dk_21 8 (dk_at dksX6_tells_7 0 rfl rfl)
theorem dX6_tells_166 : decode cX6_tells 166 = .ok (.imul, 1) := dk_104 (dk_at dksX6_tells_7 2 rfl rfl)
theorem dX6_tells_167 : decode cX6_tells 167 = .ok (.istore 10, 2) := dk_54 10 (dk_at dksX6_tells_7 3 rfl rfl)
theorem dX6_tells_169 : decode cX6_tells 169 = .ok (.iload 10, 2) := dk_21 10 (dk_at dksX6_tells_7 5 rfl rfl)
theorem dX6_tells_171 : decode cX6_tells 171 = .ok (.bipush 16, 2) := dk_16 16 (dk_at dksX6_tells_7 7 rfl rfl)
theorem dX6_tells_173 : decode cX6_tells 173 = .ok (.iload 8, 2) := dk_21 8 (dk_at dksX6_tells_7 9 rfl rfl)
theorem dX6_tells_175 : decode cX6_tells 175 = .ok (.imul, 1) := dk_104 (dk_at dksX6_tells_7 11 rfl rfl)
theorem dX6_tells_176 : decode cX6_tells 176 = .ok (.aload_n 0, 1) := dk_42 (dk_at dksX6_tells_7 12 rfl rfl)
theorem dX6_tells_177 : decode cX6_tells 177 = .ok (.getfield 25, 3) := dk_180 0 25 (dk_at dksX6_tells_7 13 rfl rfl)
theorem dX6_tells_180 : decode cX6_tells 180 = .ok (.iload 8, 2) := dk_21 8 (dk_at dksX6_tells_7 16 rfl rfl)
theorem dX6_tells_182 : decode cX6_tells 182 = .ok (.iaload, 1) := dk_46 (dk_at dksX6_tells_7 18 rfl rfl)
theorem dX6_tells_183 : decode cX6_tells 183 = .ok (.iadd, 1) := dk_96 (dk_at dksX6_tells_7 19 rfl rfl)
theorem dX6_tells_184 : decode cX6_tells 184 = .ok (.if_icmp .ge 40, 3) := dk_162 0 40 (dk_at dksX6_tells_7 20 rfl rfl)
theorem dX6_tells_187 : decode cX6_tells 187 = .ok (.aload_n 0, 1) := dk_42 (dk_at dksX6_tells_7 23 rfl rfl)
theorem dX6_tells_188 : decode cX6_tells 188 = .ok (.getfield 28, 3) := dk_180 0 28 (dk_at dksX6_tells_8 0 rfl rfl)
theorem dX6_tells_191 : decode cX6_tells 191 = .ok (.iload 10, 2) := dk_21 10 (dk_at dksX6_tells_8 3 rfl rfl)
theorem dX6_tells_193 : decode cX6_tells 193 = .ok (.iaload, 1) := dk_46 (dk_at dksX6_tells_8 5 rfl rfl)
theorem dX6_tells_194 : decode cX6_tells 194 = .ok (.iload 4, 2) := dk_21 4 (dk_at dksX6_tells_8 6 rfl rfl)
theorem dX6_tells_196 : decode cX6_tells 196 = .ok (.if_icmp .eq 6, 3) := dk_159 0 6 (dk_at dksX6_tells_8 8 rfl rfl)
theorem dX6_tells_199 : decode cX6_tells 199 = .ok (.goto 19, 3) := dk_167 0 19 (dk_at dksX6_tells_8 11 rfl rfl)
theorem dX6_tells_202 : decode cX6_tells 202 = .ok (.aload_n 0, 1) := dk_42 (dk_at dksX6_tells_8 14 rfl rfl)
theorem dX6_tells_203 : decode cX6_tells 203 = .ok (.iload 8, 2) := dk_21 8 (dk_at dksX6_tells_8 15 rfl rfl)
theorem dX6_tells_205 : decode cX6_tells 205 = .ok (.iload 10, 2) := dk_21 10 (dk_at dksX6_tells_8 17 rfl rfl)
theorem dX6_tells_207 : decode cX6_tells 207 = .ok (.invokevirtual 228, 3) := dk_182 0 228 (dk_at dksX6_tells_8 19 rfl rfl)
theorem dX6_tells_210 : decode cX6_tells 210 = .ok (.ifCond .eq 5, 3) := dk_153 0 5 (dk_at dksX6_tells_9 0 rfl rfl)
theorem dX6_tells_213 : decode cX6_tells 213 = .ok (.iconst 1, 1) := dk_4 (dk_at dksX6_tells_9 3 rfl rfl)
theorem dX6_tells_214 : decode cX6_tells 214 = .ok (.ireturn, 1) := dk_172 (dk_at dksX6_tells_9 4 rfl rfl)
theorem dX6_tells_215 : decode cX6_tells 215 = .ok (.iconst 0, 1) := dk_3 (dk_at dksX6_tells_9 5 rfl rfl)
theorem dX6_tells_216 : decode cX6_tells 216 = .ok (.istore 9, 2) := dk_54 9 (dk_at dksX6_tells_9 6 rfl rfl)
theorem dX6_tells_218 : decode cX6_tells 218 = .ok (.iinc 10 1, 3) := dk_132 10 1 (dk_at dksX6_tells_9 8 rfl rfl)
theorem dX6_tells_221 : decode cX6_tells 221 = .ok (.goto (-52), 3) := dk_167 255 204 (dk_at dksX6_tells_9 11 rfl rfl)
theorem dX6_tells_224 : decode cX6_tells 224 = .ok (.iload 9, 2) := dk_21 9 (dk_at dksX6_tells_9 14 rfl rfl)
theorem dX6_tells_226 : decode cX6_tells 226 = .ok (.ireturn, 1) := dk_172 (dk_at dksX6_tells_9 16 rfl rfl)
abbrev cX6_isLawful : ByteArray := prog_17_method_43_code
def yX6_isLawful : MethodName := ⟨RX6, "isLawful", "(II)Z"⟩
def dkwX6_isLawful_2 : List UInt8 := [132, 4, 1, 167, 255, 225, 3, 172]
abbrev dktX6_isLawful_2 : List UInt8 := dkwX6_isLawful_2 ++ []
def dkwX6_isLawful_1 : List UInt8 := [29, 104, 42, 180, 0, 25, 29, 46, 96, 162, 0, 21, 42, 29, 21, 4, 182, 0, 228, 153, 0, 5, 4, 172]
abbrev dktX6_isLawful_1 : List UInt8 := dkwX6_isLawful_1 ++ dktX6_isLawful_2
def dkwX6_isLawful_0 : List UInt8 := [42, 27, 28, 182, 0, 225, 42, 180, 0, 13, 16, 9, 46, 62, 16, 16, 29, 104, 54, 4, 21, 4, 16, 16]
abbrev dktX6_isLawful_0 : List UInt8 := dkwX6_isLawful_0 ++ dktX6_isLawful_1
theorem dksX6_isLawful_0 : cX6_isLawful.data.toList.drop 0 = dktX6_isLawful_0 := by decide +kernel
theorem dksX6_isLawful_1 : cX6_isLawful.data.toList.drop 24 = dktX6_isLawful_1 := dk_seg dksX6_isLawful_0 24 rfl rfl
theorem dksX6_isLawful_2 : cX6_isLawful.data.toList.drop 48 = dktX6_isLawful_2 := dk_seg dksX6_isLawful_1 24 rfl rfl
theorem dX6_isLawful_0 : decode cX6_isLawful 0 = .ok (.aload_n 0, 1) := dk_42 (dk_at dksX6_isLawful_0 0 rfl rfl)
theorem dX6_isLawful_1 : decode cX6_isLawful 1 = .ok (.iload_n 1, 1) := dk_27 (dk_at dksX6_isLawful_0 1 rfl rfl)
theorem dX6_isLawful_2 : decode cX6_isLawful 2 = .ok (.iload_n 2, 1) := dk_28 (dk_at dksX6_isLawful_0 2 rfl rfl)
theorem dX6_isLawful_3 : decode cX6_isLawful 3 = .ok (.invokevirtual 225, 3) := dk_182 0 225 (dk_at dksX6_isLawful_0 3 rfl rfl)
theorem dX6_isLawful_6 : decode cX6_isLawful 6 = .ok (.aload_n 0, 1) := dk_42 (dk_at dksX6_isLawful_0 6 rfl rfl)
theorem dX6_isLawful_7 : decode cX6_isLawful 7 = .ok (.getfield 13, 3) := dk_180 0 13 (dk_at dksX6_isLawful_0 7 rfl rfl)
theorem dX6_isLawful_10 : decode cX6_isLawful 10 = .ok (.bipush 9, 2) := dk_16 9 (dk_at dksX6_isLawful_0 10 rfl rfl)
theorem dX6_isLawful_12 : decode cX6_isLawful 12 = .ok (.iaload, 1) := dk_46 (dk_at dksX6_isLawful_0 12 rfl rfl)
theorem dX6_isLawful_13 : decode cX6_isLawful 13 = .ok (.istore_n 3, 1) := dk_62 (dk_at dksX6_isLawful_0 13 rfl rfl)
theorem dX6_isLawful_14 : decode cX6_isLawful 14 = .ok (.bipush 16, 2) := dk_16 16 (dk_at dksX6_isLawful_0 14 rfl rfl)
theorem dX6_isLawful_16 : decode cX6_isLawful 16 = .ok (.iload_n 3, 1) := dk_29 (dk_at dksX6_isLawful_0 16 rfl rfl)
theorem dX6_isLawful_17 : decode cX6_isLawful 17 = .ok (.imul, 1) := dk_104 (dk_at dksX6_isLawful_0 17 rfl rfl)
theorem dX6_isLawful_18 : decode cX6_isLawful 18 = .ok (.istore 4, 2) := dk_54 4 (dk_at dksX6_isLawful_0 18 rfl rfl)
theorem dX6_isLawful_20 : decode cX6_isLawful 20 = .ok (.iload 4, 2) := dk_21 4 (dk_at dksX6_isLawful_0 20 rfl rfl)
theorem dX6_isLawful_22 : decode cX6_isLawful 22 = .ok (.bipush 16, 2) := dk_16 16 (dk_at dksX6_isLawful_0 22 rfl rfl)
theorem dX6_isLawful_24 : decode cX6_isLawful 24 = .ok (.iload_n 3, 1) := dk_29 (dk_at dksX6_isLawful_1 0 rfl rfl)
theorem dX6_isLawful_25 : decode cX6_isLawful 25 = .ok (.imul, 1) := dk_104 (dk_at dksX6_isLawful_1 1 rfl rfl)
theorem dX6_isLawful_26 : decode cX6_isLawful 26 = .ok (.aload_n 0, 1) := dk_42 (dk_at dksX6_isLawful_1 2 rfl rfl)
theorem dX6_isLawful_27 : decode cX6_isLawful 27 = .ok (.getfield 25, 3) := dk_180 0 25 (dk_at dksX6_isLawful_1 3 rfl rfl)
theorem dX6_isLawful_30 : decode cX6_isLawful 30 = .ok (.iload_n 3, 1) := dk_29 (dk_at dksX6_isLawful_1 6 rfl rfl)
theorem dX6_isLawful_31 : decode cX6_isLawful 31 = .ok (.iaload, 1) := dk_46 (dk_at dksX6_isLawful_1 7 rfl rfl)
theorem dX6_isLawful_32 : decode cX6_isLawful 32 = .ok (.iadd, 1) := dk_96 (dk_at dksX6_isLawful_1 8 rfl rfl)
theorem dX6_isLawful_33 : decode cX6_isLawful 33 = .ok (.if_icmp .ge 21, 3) := dk_162 0 21 (dk_at dksX6_isLawful_1 9 rfl rfl)
theorem dX6_isLawful_36 : decode cX6_isLawful 36 = .ok (.aload_n 0, 1) := dk_42 (dk_at dksX6_isLawful_1 12 rfl rfl)
theorem dX6_isLawful_37 : decode cX6_isLawful 37 = .ok (.iload_n 3, 1) := dk_29 (dk_at dksX6_isLawful_1 13 rfl rfl)
theorem dX6_isLawful_38 : decode cX6_isLawful 38 = .ok (.iload 4, 2) := dk_21 4 (dk_at dksX6_isLawful_1 14 rfl rfl)
theorem dX6_isLawful_40 : decode cX6_isLawful 40 = .ok (.invokevirtual 228, 3) := dk_182 0 228 (dk_at dksX6_isLawful_1 16 rfl rfl)
theorem dX6_isLawful_43 : decode cX6_isLawful 43 = .ok (.ifCond .eq 5, 3) := dk_153 0 5 (dk_at dksX6_isLawful_1 19 rfl rfl)
theorem dX6_isLawful_46 : decode cX6_isLawful 46 = .ok (.iconst 1, 1) := dk_4 (dk_at dksX6_isLawful_1 22 rfl rfl)
theorem dX6_isLawful_47 : decode cX6_isLawful 47 = .ok (.ireturn, 1) := dk_172 (dk_at dksX6_isLawful_1 23 rfl rfl)
theorem dX6_isLawful_48 : decode cX6_isLawful 48 = .ok (.iinc 4 1, 3) := dk_132 4 1 (dk_at dksX6_isLawful_2 0 rfl rfl)
theorem dX6_isLawful_51 : decode cX6_isLawful 51 = .ok (.goto (-31), 3) := dk_167 255 225 (dk_at dksX6_isLawful_2 3 rfl rfl)
theorem dX6_isLawful_54 : decode cX6_isLawful 54 = .ok (.iconst 0, 1) := dk_3 (dk_at dksX6_isLawful_2 6 rfl rfl)
theorem dX6_isLawful_55 : decode cX6_isLawful 55 = .ok (.ireturn, 1) := dk_172 (dk_at dksX6_isLawful_2 7 rfl rfl)
abbrev cX6_asksOwn : ByteArray := prog_17_method_42_code
def yX6_asksOwn : MethodName := ⟨RX6, "asksOwn", "(II)V"⟩
def dkwX6_asksOwn_3 : List UInt8 := [16, 6, 42, 180, 0, 222, 79, 177]
abbrev dktX6_asksOwn_3 : List UInt8 := dkwX6_asksOwn_3 ++ []
def dkwX6_asksOwn_2 : List UInt8 := [42, 180, 0, 50, 7, 28, 79, 42, 180, 0, 50, 8, 42, 27, 4, 182, 0, 101, 79, 42, 180, 0, 50]
abbrev dktX6_asksOwn_2 : List UInt8 := dkwX6_asksOwn_2 ++ dktX6_asksOwn_3
def dkwX6_asksOwn_1 : List UInt8 := [42, 180, 0, 50, 5, 42, 27, 7, 182, 0, 101, 79, 42, 180, 0, 50, 6, 42, 27, 8, 182, 0, 101, 79]
abbrev dktX6_asksOwn_1 : List UInt8 := dkwX6_asksOwn_1 ++ dktX6_asksOwn_2
def dkwX6_asksOwn_0 : List UInt8 := [42, 180, 0, 50, 3, 42, 27, 5, 182, 0, 101, 79, 42, 180, 0, 50, 4, 42, 27, 6, 182, 0, 101, 79]
abbrev dktX6_asksOwn_0 : List UInt8 := dkwX6_asksOwn_0 ++ dktX6_asksOwn_1
theorem dksX6_asksOwn_0 : cX6_asksOwn.data.toList.drop 0 = dktX6_asksOwn_0 := by decide +kernel
theorem dksX6_asksOwn_1 : cX6_asksOwn.data.toList.drop 24 = dktX6_asksOwn_1 := dk_seg dksX6_asksOwn_0 24 rfl rfl
theorem dksX6_asksOwn_2 : cX6_asksOwn.data.toList.drop 48 = dktX6_asksOwn_2 := dk_seg dksX6_asksOwn_1 24 rfl rfl
theorem dksX6_asksOwn_3 : cX6_asksOwn.data.toList.drop 71 = dktX6_asksOwn_3 := dk_seg dksX6_asksOwn_2 23 rfl rfl
theorem dX6_asksOwn_0 : decode cX6_asksOwn 0 = .ok (.aload_n 0, 1) := dk_42 (dk_at dksX6_asksOwn_0 0 rfl rfl)
theorem dX6_asksOwn_1 : decode cX6_asksOwn 1 = .ok (.getfield 50, 3) := dk_180 0 50 (dk_at dksX6_asksOwn_0 1 rfl rfl)
theorem dX6_asksOwn_4 : decode cX6_asksOwn 4 = .ok (.iconst 0, 1) := dk_3 (dk_at dksX6_asksOwn_0 4 rfl rfl)
theorem dX6_asksOwn_5 : decode cX6_asksOwn 5 = .ok (.aload_n 0, 1) := dk_42 (dk_at dksX6_asksOwn_0 5 rfl rfl)
theorem dX6_asksOwn_6 : decode cX6_asksOwn 6 = .ok (.iload_n 1, 1) := dk_27 (dk_at dksX6_asksOwn_0 6 rfl rfl)
theorem dX6_asksOwn_7 : decode cX6_asksOwn 7 = .ok (.iconst 2, 1) := dk_5 (dk_at dksX6_asksOwn_0 7 rfl rfl)
theorem dX6_asksOwn_8 : decode cX6_asksOwn 8 = .ok (.invokevirtual 101, 3) := dk_182 0 101 (dk_at dksX6_asksOwn_0 8 rfl rfl)
theorem dX6_asksOwn_11 : decode cX6_asksOwn 11 = .ok (.iastore, 1) := dk_79 (dk_at dksX6_asksOwn_0 11 rfl rfl)
theorem dX6_asksOwn_12 : decode cX6_asksOwn 12 = .ok (.aload_n 0, 1) := dk_42 (dk_at dksX6_asksOwn_0 12 rfl rfl)
theorem dX6_asksOwn_13 : decode cX6_asksOwn 13 = .ok (.getfield 50, 3) := dk_180 0 50 (dk_at dksX6_asksOwn_0 13 rfl rfl)
theorem dX6_asksOwn_16 : decode cX6_asksOwn 16 = .ok (.iconst 1, 1) := dk_4 (dk_at dksX6_asksOwn_0 16 rfl rfl)
theorem dX6_asksOwn_17 : decode cX6_asksOwn 17 = .ok (.aload_n 0, 1) := dk_42 (dk_at dksX6_asksOwn_0 17 rfl rfl)
theorem dX6_asksOwn_18 : decode cX6_asksOwn 18 = .ok (.iload_n 1, 1) := dk_27 (dk_at dksX6_asksOwn_0 18 rfl rfl)
theorem dX6_asksOwn_19 : decode cX6_asksOwn 19 = .ok (.iconst 3, 1) := dk_6 (dk_at dksX6_asksOwn_0 19 rfl rfl)
theorem dX6_asksOwn_20 : decode cX6_asksOwn 20 = .ok (.invokevirtual 101, 3) := dk_182 0 101 (dk_at dksX6_asksOwn_0 20 rfl rfl)
theorem dX6_asksOwn_23 : decode cX6_asksOwn 23 = .ok (.iastore, 1) := dk_79 (dk_at dksX6_asksOwn_0 23 rfl rfl)
theorem dX6_asksOwn_24 : decode cX6_asksOwn 24 = .ok (.aload_n 0, 1) := dk_42 (dk_at dksX6_asksOwn_1 0 rfl rfl)
theorem dX6_asksOwn_25 : decode cX6_asksOwn 25 = .ok (.getfield 50, 3) := dk_180 0 50 (dk_at dksX6_asksOwn_1 1 rfl rfl)
theorem dX6_asksOwn_28 : decode cX6_asksOwn 28 = .ok (.iconst 2, 1) := dk_5 (dk_at dksX6_asksOwn_1 4 rfl rfl)
theorem dX6_asksOwn_29 : decode cX6_asksOwn 29 = .ok (.aload_n 0, 1) := dk_42 (dk_at dksX6_asksOwn_1 5 rfl rfl)
theorem dX6_asksOwn_30 : decode cX6_asksOwn 30 = .ok (.iload_n 1, 1) := dk_27 (dk_at dksX6_asksOwn_1 6 rfl rfl)
theorem dX6_asksOwn_31 : decode cX6_asksOwn 31 = .ok (.iconst 4, 1) := dk_7 (dk_at dksX6_asksOwn_1 7 rfl rfl)
theorem dX6_asksOwn_32 : decode cX6_asksOwn 32 = .ok (.invokevirtual 101, 3) := dk_182 0 101 (dk_at dksX6_asksOwn_1 8 rfl rfl)
theorem dX6_asksOwn_35 : decode cX6_asksOwn 35 = .ok (.iastore, 1) := dk_79 (dk_at dksX6_asksOwn_1 11 rfl rfl)
theorem dX6_asksOwn_36 : decode cX6_asksOwn 36 = .ok (.aload_n 0, 1) := dk_42 (dk_at dksX6_asksOwn_1 12 rfl rfl)
theorem dX6_asksOwn_37 : decode cX6_asksOwn 37 = .ok (.getfield 50, 3) := dk_180 0 50 (dk_at dksX6_asksOwn_1 13 rfl rfl)
theorem dX6_asksOwn_40 : decode cX6_asksOwn 40 = .ok (.iconst 3, 1) := dk_6 (dk_at dksX6_asksOwn_1 16 rfl rfl)
theorem dX6_asksOwn_41 : decode cX6_asksOwn 41 = .ok (.aload_n 0, 1) := dk_42 (dk_at dksX6_asksOwn_1 17 rfl rfl)
theorem dX6_asksOwn_42 : decode cX6_asksOwn 42 = .ok (.iload_n 1, 1) := dk_27 (dk_at dksX6_asksOwn_1 18 rfl rfl)
theorem dX6_asksOwn_43 : decode cX6_asksOwn 43 = .ok (.iconst 5, 1) := dk_8 (dk_at dksX6_asksOwn_1 19 rfl rfl)
theorem dX6_asksOwn_44 : decode cX6_asksOwn 44 = .ok (.invokevirtual 101, 3) := dk_182 0 101 (dk_at dksX6_asksOwn_1 20 rfl rfl)
theorem dX6_asksOwn_47 : decode cX6_asksOwn 47 = .ok (.iastore, 1) := dk_79 (dk_at dksX6_asksOwn_1 23 rfl rfl)
theorem dX6_asksOwn_48 : decode cX6_asksOwn 48 = .ok (.aload_n 0, 1) := dk_42 (dk_at dksX6_asksOwn_2 0 rfl rfl)
theorem dX6_asksOwn_49 : decode cX6_asksOwn 49 = .ok (.getfield 50, 3) := dk_180 0 50 (dk_at dksX6_asksOwn_2 1 rfl rfl)
theorem dX6_asksOwn_52 : decode cX6_asksOwn 52 = .ok (.iconst 4, 1) := dk_7 (dk_at dksX6_asksOwn_2 4 rfl rfl)
theorem dX6_asksOwn_53 : decode cX6_asksOwn 53 = .ok (.iload_n 2, 1) := dk_28 (dk_at dksX6_asksOwn_2 5 rfl rfl)
theorem dX6_asksOwn_54 : decode cX6_asksOwn 54 = .ok (.iastore, 1) := dk_79 (dk_at dksX6_asksOwn_2 6 rfl rfl)
theorem dX6_asksOwn_55 : decode cX6_asksOwn 55 = .ok (.aload_n 0, 1) := dk_42 (dk_at dksX6_asksOwn_2 7 rfl rfl)
theorem dX6_asksOwn_56 : decode cX6_asksOwn 56 = .ok (.getfield 50, 3) := dk_180 0 50 (dk_at dksX6_asksOwn_2 8 rfl rfl)
theorem dX6_asksOwn_59 : decode cX6_asksOwn 59 = .ok (.iconst 5, 1) := dk_8 (dk_at dksX6_asksOwn_2 11 rfl rfl)
theorem dX6_asksOwn_60 : decode cX6_asksOwn 60 = .ok (.aload_n 0, 1) := dk_42 (dk_at dksX6_asksOwn_2 12 rfl rfl)
theorem dX6_asksOwn_61 : decode cX6_asksOwn 61 = .ok (.iload_n 1, 1) := dk_27 (dk_at dksX6_asksOwn_2 13 rfl rfl)
theorem dX6_asksOwn_62 : decode cX6_asksOwn 62 = .ok (.iconst 1, 1) := dk_4 (dk_at dksX6_asksOwn_2 14 rfl rfl)
theorem dX6_asksOwn_63 : decode cX6_asksOwn 63 = .ok (.invokevirtual 101, 3) := dk_182 0 101 (dk_at dksX6_asksOwn_2 15 rfl rfl)
theorem dX6_asksOwn_66 : decode cX6_asksOwn 66 = .ok (.iastore, 1) := dk_79 (dk_at dksX6_asksOwn_2 18 rfl rfl)
theorem dX6_asksOwn_67 : decode cX6_asksOwn 67 = .ok (.aload_n 0, 1) := dk_42 (dk_at dksX6_asksOwn_2 19 rfl rfl)
theorem dX6_asksOwn_68 : decode cX6_asksOwn 68 = .ok (.getfield 50, 3) := dk_180 0 50 (dk_at dksX6_asksOwn_2 20 rfl rfl)
theorem dX6_asksOwn_71 : decode cX6_asksOwn 71 = .ok (.bipush 6, 2) := dk_16 6 (dk_at dksX6_asksOwn_3 0 rfl rfl)
theorem dX6_asksOwn_73 : decode cX6_asksOwn 73 = .ok (.aload_n 0, 1) := dk_42 (dk_at dksX6_asksOwn_3 2 rfl rfl)
theorem dX6_asksOwn_74 : decode cX6_asksOwn 74 = .ok (.getfield 222, 3) := dk_180 0 222 (dk_at dksX6_asksOwn_3 3 rfl rfl)
theorem dX6_asksOwn_77 : decode cX6_asksOwn 77 = .ok (.iastore, 1) := dk_79 (dk_at dksX6_asksOwn_3 6 rfl rfl)
theorem dX6_asksOwn_78 : decode cX6_asksOwn 78 = .ok (.return_, 1) := dk_177 (dk_at dksX6_asksOwn_3 7 rfl rfl)
abbrev cX6_isSo : ByteArray := prog_17_method_41_code
def yX6_isSo : MethodName := ⟨RX6, "isSo", "(II)Z"⟩
def dkwX6_isSo_8 : List UInt8 := [172]
abbrev dktX6_isSo_8 : List UInt8 := dkwX6_isSo_8 ++ []
def dkwX6_isSo_7 : List UInt8 := [182, 0, 218, 79, 132, 4, 1, 167, 255, 100, 42, 180, 0, 53, 3, 46, 153, 0, 7, 4, 167, 0, 4, 3]
abbrev dktX6_isSo_7 : List UInt8 := dkwX6_isSo_7 ++ dktX6_isSo_8
def dkwX6_isSo_6 : List UInt8 := [100, 42, 42, 180, 0, 37, 21, 4, 46, 42, 180, 0, 53, 29, 4, 100, 46, 42, 180, 0, 53, 29, 46]
abbrev dktX6_isSo_6 : List UInt8 := dkwX6_isSo_6 ++ dktX6_isSo_7
def dkwX6_isSo_5 : List UInt8 := [4, 42, 180, 0, 53, 29, 4, 100, 46, 100, 79, 167, 0, 40, 29, 4, 100, 62, 42, 180, 0, 53, 29, 4]
abbrev dktX6_isSo_5 : List UInt8 := dkwX6_isSo_5 ++ dktX6_isSo_6
def dkwX6_isSo_4 : List UInt8 := [96, 62, 167, 0, 73, 42, 180, 0, 37, 21, 4, 46, 16, 9, 160, 0, 24, 42, 180, 0, 53, 29, 4, 100]
abbrev dktX6_isSo_4 : List UInt8 := dkwX6_isSo_4 ++ dktX6_isSo_5
def dkwX6_isSo_3 : List UInt8 := [180, 0, 40, 21, 4, 46, 167, 0, 15, 42, 180, 0, 50, 42, 180, 0, 40, 21, 4, 46, 46, 79, 29, 4]
abbrev dktX6_isSo_3 : List UInt8 := dkwX6_isSo_3 ++ dktX6_isSo_4
def dkwX6_isSo_2 : List UInt8 := [21, 4, 46, 4, 160, 0, 48, 42, 180, 0, 53, 29, 42, 180, 0, 37, 21, 4, 46, 154, 0, 13, 42]
abbrev dktX6_isSo_2 : List UInt8 := dkwX6_isSo_2 ++ dktX6_isSo_3
def dkwX6_isSo_1 : List UInt8 := [180, 0, 34, 28, 46, 96, 162, 0, 145, 42, 180, 0, 37, 21, 4, 46, 153, 0, 14, 42, 180, 0, 37]
abbrev dktX6_isSo_1 : List UInt8 := dkwX6_isSo_1 ++ dktX6_isSo_2
def dkwX6_isSo_0 : List UInt8 := [3, 62, 17, 1, 144, 27, 104, 42, 180, 0, 31, 28, 46, 96, 54, 4, 21, 4, 17, 1, 144, 27, 104, 42]
abbrev dktX6_isSo_0 : List UInt8 := dkwX6_isSo_0 ++ dktX6_isSo_1
theorem dksX6_isSo_0 : cX6_isSo.data.toList.drop 0 = dktX6_isSo_0 := by decide +kernel
theorem dksX6_isSo_1 : cX6_isSo.data.toList.drop 24 = dktX6_isSo_1 := dk_seg dksX6_isSo_0 24 rfl rfl
theorem dksX6_isSo_2 : cX6_isSo.data.toList.drop 47 = dktX6_isSo_2 := dk_seg dksX6_isSo_1 23 rfl rfl
theorem dksX6_isSo_3 : cX6_isSo.data.toList.drop 70 = dktX6_isSo_3 := dk_seg dksX6_isSo_2 23 rfl rfl
theorem dksX6_isSo_4 : cX6_isSo.data.toList.drop 94 = dktX6_isSo_4 := dk_seg dksX6_isSo_3 24 rfl rfl
theorem dksX6_isSo_5 : cX6_isSo.data.toList.drop 118 = dktX6_isSo_5 := dk_seg dksX6_isSo_4 24 rfl rfl
theorem dksX6_isSo_6 : cX6_isSo.data.toList.drop 142 = dktX6_isSo_6 := dk_seg dksX6_isSo_5 24 rfl rfl
theorem dksX6_isSo_7 : cX6_isSo.data.toList.drop 165 = dktX6_isSo_7 := dk_seg dksX6_isSo_6 23 rfl rfl
theorem dksX6_isSo_8 : cX6_isSo.data.toList.drop 189 = dktX6_isSo_8 := dk_seg dksX6_isSo_7 24 rfl rfl
theorem dX6_isSo_0 : decode cX6_isSo 0 = .ok (.iconst 0, 1) := dk_3 (dk_at dksX6_isSo_0 0 rfl rfl)
theorem dX6_isSo_1 : decode cX6_isSo 1 = .ok (.istore_n 3, 1) := dk_62 (dk_at dksX6_isSo_0 1 rfl rfl)
theorem dX6_isSo_2 : decode cX6_isSo 2 = .ok (.sipush 400, 3) := dk_17 1 144 (dk_at dksX6_isSo_0 2 rfl rfl)
theorem dX6_isSo_5 : decode cX6_isSo 5 = .ok (.iload_n 1, 1) := dk_27 (dk_at dksX6_isSo_0 5 rfl rfl)
theorem dX6_isSo_6 : decode cX6_isSo 6 = .ok (.imul, 1) := dk_104 (dk_at dksX6_isSo_0 6 rfl rfl)
theorem dX6_isSo_7 : decode cX6_isSo 7 = .ok (.aload_n 0, 1) := dk_42 (dk_at dksX6_isSo_0 7 rfl rfl)
theorem dX6_isSo_8 : decode cX6_isSo 8 = .ok (.getfield 31, 3) := dk_180 0 31 (dk_at dksX6_isSo_0 8 rfl rfl)
theorem dX6_isSo_11 : decode cX6_isSo 11 = .ok (.iload_n 2, 1) := dk_28 (dk_at dksX6_isSo_0 11 rfl rfl)
theorem dX6_isSo_12 : decode cX6_isSo 12 = .ok (.iaload, 1) := dk_46 (dk_at dksX6_isSo_0 12 rfl rfl)
theorem dX6_isSo_13 : decode cX6_isSo 13 = .ok (.iadd, 1) := dk_96 (dk_at dksX6_isSo_0 13 rfl rfl)
theorem dX6_isSo_14 : decode cX6_isSo 14 = .ok (.istore 4, 2) := dk_54 4 (dk_at dksX6_isSo_0 14 rfl rfl)
theorem dX6_isSo_16 : decode cX6_isSo 16 = .ok (.iload 4, 2) := dk_21 4 (dk_at dksX6_isSo_0 16 rfl rfl)
theorem dX6_isSo_18 : decode cX6_isSo 18 = .ok (.sipush 400, 3) := dk_17 1 144 (dk_at dksX6_isSo_0 18 rfl rfl)
theorem dX6_isSo_21 : decode cX6_isSo 21 = .ok (.iload_n 1, 1) := dk_27 (dk_at dksX6_isSo_0 21 rfl rfl)
theorem dX6_isSo_22 : decode cX6_isSo 22 = .ok (.imul, 1) := dk_104 (dk_at dksX6_isSo_0 22 rfl rfl)
theorem dX6_isSo_23 : decode cX6_isSo 23 = .ok (.aload_n 0, 1) := dk_42 (dk_at dksX6_isSo_0 23 rfl rfl)
theorem dX6_isSo_24 : decode cX6_isSo 24 = .ok (.getfield 34, 3) := dk_180 0 34 (dk_at dksX6_isSo_1 0 rfl rfl)
theorem dX6_isSo_27 : decode cX6_isSo 27 = .ok (.iload_n 2, 1) := dk_28 (dk_at dksX6_isSo_1 3 rfl rfl)
theorem dX6_isSo_28 : decode cX6_isSo 28 = .ok (.iaload, 1) := dk_46 (dk_at dksX6_isSo_1 4 rfl rfl)
theorem dX6_isSo_29 : decode cX6_isSo 29 = .ok (.iadd, 1) := dk_96 (dk_at dksX6_isSo_1 5 rfl rfl)
theorem dX6_isSo_30 : decode cX6_isSo 30 = .ok (.if_icmp .ge 145, 3) := dk_162 0 145 (dk_at dksX6_isSo_1 6 rfl rfl)
theorem dX6_isSo_33 : decode cX6_isSo 33 = .ok (.aload_n 0, 1) := dk_42 (dk_at dksX6_isSo_1 9 rfl rfl)
theorem dX6_isSo_34 : decode cX6_isSo 34 = .ok (.getfield 37, 3) := dk_180 0 37 (dk_at dksX6_isSo_1 10 rfl rfl)
theorem dX6_isSo_37 : decode cX6_isSo 37 = .ok (.iload 4, 2) := dk_21 4 (dk_at dksX6_isSo_1 13 rfl rfl)
theorem dX6_isSo_39 : decode cX6_isSo 39 = .ok (.iaload, 1) := dk_46 (dk_at dksX6_isSo_1 15 rfl rfl)
theorem dX6_isSo_40 : decode cX6_isSo 40 = .ok (.ifCond .eq 14, 3) := dk_153 0 14 (dk_at dksX6_isSo_1 16 rfl rfl)
theorem dX6_isSo_43 : decode cX6_isSo 43 = .ok (.aload_n 0, 1) := dk_42 (dk_at dksX6_isSo_1 19 rfl rfl)
theorem dX6_isSo_44 : decode cX6_isSo 44 = .ok (.getfield 37, 3) := dk_180 0 37 (dk_at dksX6_isSo_1 20 rfl rfl)
theorem dX6_isSo_47 : decode cX6_isSo 47 = .ok (.iload 4, 2) := dk_21 4 (dk_at dksX6_isSo_2 0 rfl rfl)
theorem dX6_isSo_49 : decode cX6_isSo 49 = .ok (.iaload, 1) := dk_46 (dk_at dksX6_isSo_2 2 rfl rfl)
theorem dX6_isSo_50 : decode cX6_isSo 50 = .ok (.iconst 1, 1) := dk_4 (dk_at dksX6_isSo_2 3 rfl rfl)
theorem dX6_isSo_51 : decode cX6_isSo 51 = .ok (.if_icmp .ne 48, 3) := dk_160 0 48 (dk_at dksX6_isSo_2 4 rfl rfl)
theorem dX6_isSo_54 : decode cX6_isSo 54 = .ok (.aload_n 0, 1) := dk_42 (dk_at dksX6_isSo_2 7 rfl rfl)
theorem dX6_isSo_55 : decode cX6_isSo 55 = .ok (.getfield 53, 3) := dk_180 0 53 (dk_at dksX6_isSo_2 8 rfl rfl)
theorem dX6_isSo_58 : decode cX6_isSo 58 = .ok (.iload_n 3, 1) := dk_29 (dk_at dksX6_isSo_2 11 rfl rfl)
theorem dX6_isSo_59 : decode cX6_isSo 59 = .ok (.aload_n 0, 1) := dk_42 (dk_at dksX6_isSo_2 12 rfl rfl)
theorem dX6_isSo_60 : decode cX6_isSo 60 = .ok (.getfield 37, 3) := dk_180 0 37 (dk_at dksX6_isSo_2 13 rfl rfl)
theorem dX6_isSo_63 : decode cX6_isSo 63 = .ok (.iload 4, 2) := dk_21 4 (dk_at dksX6_isSo_2 16 rfl rfl)
theorem dX6_isSo_65 : decode cX6_isSo 65 = .ok (.iaload, 1) := dk_46 (dk_at dksX6_isSo_2 18 rfl rfl)
theorem dX6_isSo_66 : decode cX6_isSo 66 = .ok (.ifCond .ne 13, 3) := dk_154 0 13 (dk_at dksX6_isSo_2 19 rfl rfl)
theorem dX6_isSo_69 : decode cX6_isSo 69 = .ok (.aload_n 0, 1) := dk_42 (dk_at dksX6_isSo_2 22 rfl rfl)
theorem dX6_isSo_70 : decode cX6_isSo 70 = .ok (.getfield 40, 3) := dk_180 0 40 (dk_at dksX6_isSo_3 0 rfl rfl)
theorem dX6_isSo_73 : decode cX6_isSo 73 = .ok (.iload 4, 2) := dk_21 4 (dk_at dksX6_isSo_3 3 rfl rfl)
theorem dX6_isSo_75 : decode cX6_isSo 75 = .ok (.iaload, 1) := dk_46 (dk_at dksX6_isSo_3 5 rfl rfl)
theorem dX6_isSo_76 : decode cX6_isSo 76 = .ok (.goto 15, 3) := dk_167 0 15 (dk_at dksX6_isSo_3 6 rfl rfl)
theorem dX6_isSo_79 : decode cX6_isSo 79 = .ok (.aload_n 0, 1) := dk_42 (dk_at dksX6_isSo_3 9 rfl rfl)
theorem dX6_isSo_80 : decode cX6_isSo 80 = .ok (.getfield 50, 3) := dk_180 0 50 (dk_at dksX6_isSo_3 10 rfl rfl)
theorem dX6_isSo_83 : decode cX6_isSo 83 = .ok (.aload_n 0, 1) := dk_42 (dk_at dksX6_isSo_3 13 rfl rfl)
theorem dX6_isSo_84 : decode cX6_isSo 84 = .ok (.getfield 40, 3) := dk_180 0 40 (dk_at dksX6_isSo_3 14 rfl rfl)
theorem dX6_isSo_87 : decode cX6_isSo 87 = .ok (.iload 4, 2) := dk_21 4 (dk_at dksX6_isSo_3 17 rfl rfl)
theorem dX6_isSo_89 : decode cX6_isSo 89 = .ok (.iaload, 1) := dk_46 (dk_at dksX6_isSo_3 19 rfl rfl)
theorem dX6_isSo_90 : decode cX6_isSo 90 = .ok (.iaload, 1) := dk_46 (dk_at dksX6_isSo_3 20 rfl rfl)
theorem dX6_isSo_91 : decode cX6_isSo 91 = .ok (.iastore, 1) := dk_79 (dk_at dksX6_isSo_3 21 rfl rfl)
theorem dX6_isSo_92 : decode cX6_isSo 92 = .ok (.iload_n 3, 1) := dk_29 (dk_at dksX6_isSo_3 22 rfl rfl)
theorem dX6_isSo_93 : decode cX6_isSo 93 = .ok (.iconst 1, 1) := dk_4 (dk_at dksX6_isSo_3 23 rfl rfl)
theorem dX6_isSo_94 : decode cX6_isSo 94 = .ok (.iadd, 1) := dk_96 (dk_at dksX6_isSo_4 0 rfl rfl)
theorem dX6_isSo_95 : decode cX6_isSo 95 = .ok (.istore_n 3, 1) := dk_62 (dk_at dksX6_isSo_4 1 rfl rfl)
theorem dX6_isSo_96 : decode cX6_isSo 96 = .ok (.goto 73, 3) := dk_167 0 73 (dk_at dksX6_isSo_4 2 rfl rfl)
theorem dX6_isSo_99 : decode cX6_isSo 99 = .ok (.aload_n 0, 1) := dk_42 (dk_at dksX6_isSo_4 5 rfl rfl)
theorem dX6_isSo_100 : decode cX6_isSo 100 = .ok (.getfield 37, 3) := dk_180 0 37 (dk_at dksX6_isSo_4 6 rfl rfl)
theorem dX6_isSo_103 : decode cX6_isSo 103 = .ok (.iload 4, 2) := dk_21 4 (dk_at dksX6_isSo_4 9 rfl rfl)
theorem dX6_isSo_105 : decode cX6_isSo 105 = .ok (.iaload, 1) := dk_46 (dk_at dksX6_isSo_4 11 rfl rfl)
theorem dX6_isSo_106 : decode cX6_isSo 106 = .ok (.bipush 9, 2) := dk_16 9 (dk_at dksX6_isSo_4 12 rfl rfl)
theorem dX6_isSo_108 : decode cX6_isSo 108 = .ok (.if_icmp .ne 24, 3) := dk_160 0 24 (dk_at dksX6_isSo_4 14 rfl rfl)
theorem dX6_isSo_111 : decode cX6_isSo 111 = .ok (.aload_n 0, 1) := dk_42 (dk_at dksX6_isSo_4 17 rfl rfl)
theorem dX6_isSo_112 : decode cX6_isSo 112 = .ok (.getfield 53, 3) := dk_180 0 53 (dk_at dksX6_isSo_4 18 rfl rfl)
theorem dX6_isSo_115 : decode cX6_isSo 115 = .ok (.iload_n 3, 1) := dk_29 (dk_at dksX6_isSo_4 21 rfl rfl)
theorem dX6_isSo_116 : decode cX6_isSo 116 = .ok (.iconst 1, 1) := dk_4 (dk_at dksX6_isSo_4 22 rfl rfl)
theorem dX6_isSo_117 : decode cX6_isSo 117 = .ok (.isub, 1) := dk_100 (dk_at dksX6_isSo_4 23 rfl rfl)
theorem dX6_isSo_118 : decode cX6_isSo 118 = .ok (.iconst 1, 1) := dk_4 (dk_at dksX6_isSo_5 0 rfl rfl)
theorem dX6_isSo_119 : decode cX6_isSo 119 = .ok (.aload_n 0, 1) := dk_42 (dk_at dksX6_isSo_5 1 rfl rfl)
theorem dX6_isSo_120 : decode cX6_isSo 120 = .ok (.getfield 53, 3) := dk_180 0 53 (dk_at dksX6_isSo_5 2 rfl rfl)
theorem dX6_isSo_123 : decode cX6_isSo 123 = .ok (.iload_n 3, 1) := dk_29 (dk_at dksX6_isSo_5 5 rfl rfl)
theorem dX6_isSo_124 : decode cX6_isSo 124 = .ok (.iconst 1, 1) := dk_4 (dk_at dksX6_isSo_5 6 rfl rfl)
theorem dX6_isSo_125 : decode cX6_isSo 125 = .ok (.isub, 1) := dk_100 (dk_at dksX6_isSo_5 7 rfl rfl)
theorem dX6_isSo_126 : decode cX6_isSo 126 = .ok (.iaload, 1) := dk_46 (dk_at dksX6_isSo_5 8 rfl rfl)
theorem dX6_isSo_127 : decode cX6_isSo 127 = .ok (.isub, 1) := dk_100 (dk_at dksX6_isSo_5 9 rfl rfl)
theorem dX6_isSo_128 : decode cX6_isSo 128 = .ok (.iastore, 1) := dk_79 (dk_at dksX6_isSo_5 10 rfl rfl)
theorem dX6_isSo_129 : decode cX6_isSo 129 = .ok (.goto 40, 3) := dk_167 0 40 (dk_at dksX6_isSo_5 11 rfl rfl)
theorem dX6_isSo_132 : decode cX6_isSo 132 = .ok (.iload_n 3, 1) := dk_29 (dk_at dksX6_isSo_5 14 rfl rfl)
theorem dX6_isSo_133 : decode cX6_isSo 133 = .ok (.iconst 1, 1) := dk_4 (dk_at dksX6_isSo_5 15 rfl rfl)
theorem dX6_isSo_134 : decode cX6_isSo 134 = .ok (.isub, 1) := dk_100 (dk_at dksX6_isSo_5 16 rfl rfl)
theorem dX6_isSo_135 : decode cX6_isSo 135 = .ok (.istore_n 3, 1) := dk_62 (dk_at dksX6_isSo_5 17 rfl rfl)
theorem dX6_isSo_136 : decode cX6_isSo 136 = .ok (.aload_n 0, 1) := dk_42 (dk_at dksX6_isSo_5 18 rfl rfl)
theorem dX6_isSo_137 : decode cX6_isSo 137 = .ok (.getfield 53, 3) := dk_180 0 53 (dk_at dksX6_isSo_5 19 rfl rfl)
theorem dX6_isSo_140 : decode cX6_isSo 140 = .ok (.iload_n 3, 1) := dk_29 (dk_at dksX6_isSo_5 22 rfl rfl)
theorem dX6_isSo_141 : decode cX6_isSo 141 = .ok (.iconst 1, 1) := dk_4 (dk_at dksX6_isSo_5 23 rfl rfl)
theorem dX6_isSo_142 : decode cX6_isSo 142 = .ok (.isub, 1) := dk_100 (dk_at dksX6_isSo_6 0 rfl rfl)
theorem dX6_isSo_143 : decode cX6_isSo 143 = .ok (.aload_n 0, 1) := dk_42 (dk_at dksX6_isSo_6 1 rfl rfl)
theorem dX6_isSo_144 : decode cX6_isSo 144 = .ok (.aload_n 0, 1) := dk_42 (dk_at dksX6_isSo_6 2 rfl rfl)
theorem dX6_isSo_145 : decode cX6_isSo 145 = .ok (.getfield 37, 3) := dk_180 0 37 (dk_at dksX6_isSo_6 3 rfl rfl)
theorem dX6_isSo_148 : decode cX6_isSo 148 = .ok (.iload 4, 2) := dk_21 4 (dk_at dksX6_isSo_6 6 rfl rfl)
theorem dX6_isSo_150 : decode cX6_isSo 150 = .ok (.iaload, 1) := dk_46 (dk_at dksX6_isSo_6 8 rfl rfl)
theorem dX6_isSo_151 : decode cX6_isSo 151 = .ok (.aload_n 0, 1) := dk_42 (dk_at dksX6_isSo_6 9 rfl rfl)
theorem dX6_isSo_152 : decode cX6_isSo 152 = .ok (.getfield 53, 3) := dk_180 0 53 (dk_at dksX6_isSo_6 10 rfl rfl)
theorem dX6_isSo_155 : decode cX6_isSo 155 = .ok (.iload_n 3, 1) := dk_29 (dk_at dksX6_isSo_6 13 rfl rfl)
theorem dX6_isSo_156 : decode cX6_isSo 156 = .ok (.iconst 1, 1) := dk_4 (dk_at dksX6_isSo_6 14 rfl rfl)
theorem dX6_isSo_157 : decode cX6_isSo 157 = .ok (.isub, 1) := dk_100 (dk_at dksX6_isSo_6 15 rfl rfl)
theorem dX6_isSo_158 : decode cX6_isSo 158 = .ok (.iaload, 1) := dk_46 (dk_at dksX6_isSo_6 16 rfl rfl)
theorem dX6_isSo_159 : decode cX6_isSo 159 = .ok (.aload_n 0, 1) := dk_42 (dk_at dksX6_isSo_6 17 rfl rfl)
theorem dX6_isSo_160 : decode cX6_isSo 160 = .ok (.getfield 53, 3) := dk_180 0 53 (dk_at dksX6_isSo_6 18 rfl rfl)
theorem dX6_isSo_163 : decode cX6_isSo 163 = .ok (.iload_n 3, 1) := dk_29 (dk_at dksX6_isSo_6 21 rfl rfl)
theorem dX6_isSo_164 : decode cX6_isSo 164 = .ok (.iaload, 1) := dk_46 (dk_at dksX6_isSo_6 22 rfl rfl)
theorem dX6_isSo_165 : decode cX6_isSo 165 = .ok (.invokevirtual 218, 3) := dk_182 0 218 (dk_at dksX6_isSo_7 0 rfl rfl)
theorem dX6_isSo_168 : decode cX6_isSo 168 = .ok (.iastore, 1) := dk_79 (dk_at dksX6_isSo_7 3 rfl rfl)
theorem dX6_isSo_169 : decode cX6_isSo 169 = .ok (.iinc 4 1, 3) := dk_132 4 1 (dk_at dksX6_isSo_7 4 rfl rfl)
theorem dX6_isSo_172 : decode cX6_isSo 172 = .ok (.goto (-156), 3) := dk_167 255 100 (dk_at dksX6_isSo_7 7 rfl rfl)
theorem dX6_isSo_175 : decode cX6_isSo 175 = .ok (.aload_n 0, 1) := dk_42 (dk_at dksX6_isSo_7 10 rfl rfl)
theorem dX6_isSo_176 : decode cX6_isSo 176 = .ok (.getfield 53, 3) := dk_180 0 53 (dk_at dksX6_isSo_7 11 rfl rfl)
theorem dX6_isSo_179 : decode cX6_isSo 179 = .ok (.iconst 0, 1) := dk_3 (dk_at dksX6_isSo_7 14 rfl rfl)
theorem dX6_isSo_180 : decode cX6_isSo 180 = .ok (.iaload, 1) := dk_46 (dk_at dksX6_isSo_7 15 rfl rfl)
theorem dX6_isSo_181 : decode cX6_isSo 181 = .ok (.ifCond .eq 7, 3) := dk_153 0 7 (dk_at dksX6_isSo_7 16 rfl rfl)
theorem dX6_isSo_184 : decode cX6_isSo 184 = .ok (.iconst 1, 1) := dk_4 (dk_at dksX6_isSo_7 19 rfl rfl)
theorem dX6_isSo_185 : decode cX6_isSo 185 = .ok (.goto 4, 3) := dk_167 0 4 (dk_at dksX6_isSo_7 20 rfl rfl)
theorem dX6_isSo_188 : decode cX6_isSo 188 = .ok (.iconst 0, 1) := dk_3 (dk_at dksX6_isSo_7 23 rfl rfl)
theorem dX6_isSo_189 : decode cX6_isSo 189 = .ok (.ireturn, 1) := dk_172 (dk_at dksX6_isSo_8 0 rfl rfl)
abbrev cX6_twoOf : ByteArray := prog_17_method_40_code
def yX6_twoOf : MethodName := ⟨RX6, "twoOf", "(III)I"⟩
def dkwX6_twoOf_4 : List UInt8 := [104, 167, 0, 14, 28, 29, 96, 158, 0, 7, 4, 167, 0, 4, 3, 172]
abbrev dktX6_twoOf_4 : List UInt8 := dkwX6_twoOf_4 ++ []
def dkwX6_twoOf_3 : List UInt8 := [16, 8, 160, 0, 14, 28, 29, 164, 0, 7, 4, 167, 0, 4, 3, 172, 27, 16, 10, 160, 0, 9, 28, 29]
abbrev dktX6_twoOf_3 : List UInt8 := dkwX6_twoOf_3 ++ dktX6_twoOf_4
def dkwX6_twoOf_2 : List UInt8 := [167, 0, 4, 3, 172, 27, 16, 7, 160, 0, 14, 28, 29, 160, 0, 7, 4, 167, 0, 4, 3, 172, 27]
abbrev dktX6_twoOf_2 : List UInt8 := dkwX6_twoOf_2 ++ dktX6_twoOf_3
def dkwX6_twoOf_1 : List UInt8 := [29, 104, 172, 27, 8, 160, 0, 7, 28, 29, 108, 172, 27, 16, 6, 160, 0, 14, 28, 29, 162, 0, 7, 4]
abbrev dktX6_twoOf_1 : List UInt8 := dkwX6_twoOf_1 ++ dktX6_twoOf_2
def dkwX6_twoOf_0 : List UInt8 := [27, 5, 160, 0, 7, 28, 29, 96, 172, 27, 6, 160, 0, 7, 28, 29, 100, 172, 27, 7, 160, 0, 7, 28]
abbrev dktX6_twoOf_0 : List UInt8 := dkwX6_twoOf_0 ++ dktX6_twoOf_1
theorem dksX6_twoOf_0 : cX6_twoOf.data.toList.drop 0 = dktX6_twoOf_0 := by decide +kernel
theorem dksX6_twoOf_1 : cX6_twoOf.data.toList.drop 24 = dktX6_twoOf_1 := dk_seg dksX6_twoOf_0 24 rfl rfl
theorem dksX6_twoOf_2 : cX6_twoOf.data.toList.drop 48 = dktX6_twoOf_2 := dk_seg dksX6_twoOf_1 24 rfl rfl
theorem dksX6_twoOf_3 : cX6_twoOf.data.toList.drop 71 = dktX6_twoOf_3 := dk_seg dksX6_twoOf_2 23 rfl rfl
theorem dksX6_twoOf_4 : cX6_twoOf.data.toList.drop 95 = dktX6_twoOf_4 := dk_seg dksX6_twoOf_3 24 rfl rfl
theorem dX6_twoOf_0 : decode cX6_twoOf 0 = .ok (.iload_n 1, 1) := dk_27 (dk_at dksX6_twoOf_0 0 rfl rfl)
theorem dX6_twoOf_1 : decode cX6_twoOf 1 = .ok (.iconst 2, 1) := dk_5 (dk_at dksX6_twoOf_0 1 rfl rfl)
theorem dX6_twoOf_2 : decode cX6_twoOf 2 = .ok (.if_icmp .ne 7, 3) := dk_160 0 7 (dk_at dksX6_twoOf_0 2 rfl rfl)
theorem dX6_twoOf_5 : decode cX6_twoOf 5 = .ok (.iload_n 2, 1) := dk_28 (dk_at dksX6_twoOf_0 5 rfl rfl)
theorem dX6_twoOf_6 : decode cX6_twoOf 6 = .ok (.iload_n 3, 1) := dk_29 (dk_at dksX6_twoOf_0 6 rfl rfl)
theorem dX6_twoOf_7 : decode cX6_twoOf 7 = .ok (.iadd, 1) := dk_96 (dk_at dksX6_twoOf_0 7 rfl rfl)
theorem dX6_twoOf_8 : decode cX6_twoOf 8 = .ok (.ireturn, 1) := dk_172 (dk_at dksX6_twoOf_0 8 rfl rfl)
theorem dX6_twoOf_9 : decode cX6_twoOf 9 = .ok (.iload_n 1, 1) := dk_27 (dk_at dksX6_twoOf_0 9 rfl rfl)
theorem dX6_twoOf_10 : decode cX6_twoOf 10 = .ok (.iconst 3, 1) := dk_6 (dk_at dksX6_twoOf_0 10 rfl rfl)
theorem dX6_twoOf_11 : decode cX6_twoOf 11 = .ok (.if_icmp .ne 7, 3) := dk_160 0 7 (dk_at dksX6_twoOf_0 11 rfl rfl)
theorem dX6_twoOf_14 : decode cX6_twoOf 14 = .ok (.iload_n 2, 1) := dk_28 (dk_at dksX6_twoOf_0 14 rfl rfl)
theorem dX6_twoOf_15 : decode cX6_twoOf 15 = .ok (.iload_n 3, 1) := dk_29 (dk_at dksX6_twoOf_0 15 rfl rfl)
theorem dX6_twoOf_16 : decode cX6_twoOf 16 = .ok (.isub, 1) := dk_100 (dk_at dksX6_twoOf_0 16 rfl rfl)
theorem dX6_twoOf_17 : decode cX6_twoOf 17 = .ok (.ireturn, 1) := dk_172 (dk_at dksX6_twoOf_0 17 rfl rfl)
theorem dX6_twoOf_18 : decode cX6_twoOf 18 = .ok (.iload_n 1, 1) := dk_27 (dk_at dksX6_twoOf_0 18 rfl rfl)
theorem dX6_twoOf_19 : decode cX6_twoOf 19 = .ok (.iconst 4, 1) := dk_7 (dk_at dksX6_twoOf_0 19 rfl rfl)
theorem dX6_twoOf_20 : decode cX6_twoOf 20 = .ok (.if_icmp .ne 7, 3) := dk_160 0 7 (dk_at dksX6_twoOf_0 20 rfl rfl)
theorem dX6_twoOf_23 : decode cX6_twoOf 23 = .ok (.iload_n 2, 1) := dk_28 (dk_at dksX6_twoOf_0 23 rfl rfl)
theorem dX6_twoOf_24 : decode cX6_twoOf 24 = .ok (.iload_n 3, 1) := dk_29 (dk_at dksX6_twoOf_1 0 rfl rfl)
theorem dX6_twoOf_25 : decode cX6_twoOf 25 = .ok (.imul, 1) := dk_104 (dk_at dksX6_twoOf_1 1 rfl rfl)
theorem dX6_twoOf_26 : decode cX6_twoOf 26 = .ok (.ireturn, 1) := dk_172 (dk_at dksX6_twoOf_1 2 rfl rfl)
theorem dX6_twoOf_27 : decode cX6_twoOf 27 = .ok (.iload_n 1, 1) := dk_27 (dk_at dksX6_twoOf_1 3 rfl rfl)
theorem dX6_twoOf_28 : decode cX6_twoOf 28 = .ok (.iconst 5, 1) := dk_8 (dk_at dksX6_twoOf_1 4 rfl rfl)
theorem dX6_twoOf_29 : decode cX6_twoOf 29 = .ok (.if_icmp .ne 7, 3) := dk_160 0 7 (dk_at dksX6_twoOf_1 5 rfl rfl)
theorem dX6_twoOf_32 : decode cX6_twoOf 32 = .ok (.iload_n 2, 1) := dk_28 (dk_at dksX6_twoOf_1 8 rfl rfl)
theorem dX6_twoOf_33 : decode cX6_twoOf 33 = .ok (.iload_n 3, 1) := dk_29 (dk_at dksX6_twoOf_1 9 rfl rfl)
theorem dX6_twoOf_34 : decode cX6_twoOf 34 = .ok (.idiv, 1) := dk_108 (dk_at dksX6_twoOf_1 10 rfl rfl)
theorem dX6_twoOf_35 : decode cX6_twoOf 35 = .ok (.ireturn, 1) := dk_172 (dk_at dksX6_twoOf_1 11 rfl rfl)
theorem dX6_twoOf_36 : decode cX6_twoOf 36 = .ok (.iload_n 1, 1) := dk_27 (dk_at dksX6_twoOf_1 12 rfl rfl)
theorem dX6_twoOf_37 : decode cX6_twoOf 37 = .ok (.bipush 6, 2) := dk_16 6 (dk_at dksX6_twoOf_1 13 rfl rfl)
theorem dX6_twoOf_39 : decode cX6_twoOf 39 = .ok (.if_icmp .ne 14, 3) := dk_160 0 14 (dk_at dksX6_twoOf_1 15 rfl rfl)
theorem dX6_twoOf_42 : decode cX6_twoOf 42 = .ok (.iload_n 2, 1) := dk_28 (dk_at dksX6_twoOf_1 18 rfl rfl)
theorem dX6_twoOf_43 : decode cX6_twoOf 43 = .ok (.iload_n 3, 1) := dk_29 (dk_at dksX6_twoOf_1 19 rfl rfl)
theorem dX6_twoOf_44 : decode cX6_twoOf 44 = .ok (.if_icmp .ge 7, 3) := dk_162 0 7 (dk_at dksX6_twoOf_1 20 rfl rfl)
theorem dX6_twoOf_47 : decode cX6_twoOf 47 = .ok (.iconst 1, 1) := dk_4 (dk_at dksX6_twoOf_1 23 rfl rfl)
theorem dX6_twoOf_48 : decode cX6_twoOf 48 = .ok (.goto 4, 3) := dk_167 0 4 (dk_at dksX6_twoOf_2 0 rfl rfl)
theorem dX6_twoOf_51 : decode cX6_twoOf 51 = .ok (.iconst 0, 1) := dk_3 (dk_at dksX6_twoOf_2 3 rfl rfl)
theorem dX6_twoOf_52 : decode cX6_twoOf 52 = .ok (.ireturn, 1) := dk_172 (dk_at dksX6_twoOf_2 4 rfl rfl)
theorem dX6_twoOf_53 : decode cX6_twoOf 53 = .ok (.iload_n 1, 1) := dk_27 (dk_at dksX6_twoOf_2 5 rfl rfl)
theorem dX6_twoOf_54 : decode cX6_twoOf 54 = .ok (.bipush 7, 2) := dk_16 7 (dk_at dksX6_twoOf_2 6 rfl rfl)
theorem dX6_twoOf_56 : decode cX6_twoOf 56 = .ok (.if_icmp .ne 14, 3) := dk_160 0 14 (dk_at dksX6_twoOf_2 8 rfl rfl)
theorem dX6_twoOf_59 : decode cX6_twoOf 59 = .ok (.iload_n 2, 1) := dk_28 (dk_at dksX6_twoOf_2 11 rfl rfl)
theorem dX6_twoOf_60 : decode cX6_twoOf 60 = .ok (.iload_n 3, 1) := dk_29 (dk_at dksX6_twoOf_2 12 rfl rfl)
theorem dX6_twoOf_61 : decode cX6_twoOf 61 = .ok (.if_icmp .ne 7, 3) := dk_160 0 7 (dk_at dksX6_twoOf_2 13 rfl rfl)
theorem dX6_twoOf_64 : decode cX6_twoOf 64 = .ok (.iconst 1, 1) := dk_4 (dk_at dksX6_twoOf_2 16 rfl rfl)
theorem dX6_twoOf_65 : decode cX6_twoOf 65 = .ok (.goto 4, 3) := dk_167 0 4 (dk_at dksX6_twoOf_2 17 rfl rfl)
theorem dX6_twoOf_68 : decode cX6_twoOf 68 = .ok (.iconst 0, 1) := dk_3 (dk_at dksX6_twoOf_2 20 rfl rfl)
theorem dX6_twoOf_69 : decode cX6_twoOf 69 = .ok (.ireturn, 1) := dk_172 (dk_at dksX6_twoOf_2 21 rfl rfl)
theorem dX6_twoOf_70 : decode cX6_twoOf 70 = .ok (.iload_n 1, 1) := dk_27 (dk_at dksX6_twoOf_2 22 rfl rfl)
theorem dX6_twoOf_71 : decode cX6_twoOf 71 = .ok (.bipush 8, 2) := dk_16 8 (dk_at dksX6_twoOf_3 0 rfl rfl)
theorem dX6_twoOf_73 : decode cX6_twoOf 73 = .ok (.if_icmp .ne 14, 3) := dk_160 0 14 (dk_at dksX6_twoOf_3 2 rfl rfl)
theorem dX6_twoOf_76 : decode cX6_twoOf 76 = .ok (.iload_n 2, 1) := dk_28 (dk_at dksX6_twoOf_3 5 rfl rfl)
theorem dX6_twoOf_77 : decode cX6_twoOf 77 = .ok (.iload_n 3, 1) := dk_29 (dk_at dksX6_twoOf_3 6 rfl rfl)
theorem dX6_twoOf_78 : decode cX6_twoOf 78 = .ok (.if_icmp .le 7, 3) := dk_164 0 7 (dk_at dksX6_twoOf_3 7 rfl rfl)
theorem dX6_twoOf_81 : decode cX6_twoOf 81 = .ok (.iconst 1, 1) := dk_4 (dk_at dksX6_twoOf_3 10 rfl rfl)
theorem dX6_twoOf_82 : decode cX6_twoOf 82 = .ok (.goto 4, 3) := dk_167 0 4 (dk_at dksX6_twoOf_3 11 rfl rfl)
theorem dX6_twoOf_85 : decode cX6_twoOf 85 = .ok (.iconst 0, 1) := dk_3 (dk_at dksX6_twoOf_3 14 rfl rfl)
theorem dX6_twoOf_86 : decode cX6_twoOf 86 = .ok (.ireturn, 1) := dk_172 (dk_at dksX6_twoOf_3 15 rfl rfl)
theorem dX6_twoOf_87 : decode cX6_twoOf 87 = .ok (.iload_n 1, 1) := dk_27 (dk_at dksX6_twoOf_3 16 rfl rfl)
theorem dX6_twoOf_88 : decode cX6_twoOf 88 = .ok (.bipush 10, 2) := dk_16 10 (dk_at dksX6_twoOf_3 17 rfl rfl)
theorem dX6_twoOf_90 : decode cX6_twoOf 90 = .ok (.if_icmp .ne 9, 3) := dk_160 0 9 (dk_at dksX6_twoOf_3 19 rfl rfl)
theorem dX6_twoOf_93 : decode cX6_twoOf 93 = .ok (.iload_n 2, 1) := dk_28 (dk_at dksX6_twoOf_3 22 rfl rfl)
theorem dX6_twoOf_94 : decode cX6_twoOf 94 = .ok (.iload_n 3, 1) := dk_29 (dk_at dksX6_twoOf_3 23 rfl rfl)
theorem dX6_twoOf_95 : decode cX6_twoOf 95 = .ok (.imul, 1) := dk_104 (dk_at dksX6_twoOf_4 0 rfl rfl)
theorem dX6_twoOf_96 : decode cX6_twoOf 96 = .ok (.goto 14, 3) := dk_167 0 14 (dk_at dksX6_twoOf_4 1 rfl rfl)
theorem dX6_twoOf_99 : decode cX6_twoOf 99 = .ok (.iload_n 2, 1) := dk_28 (dk_at dksX6_twoOf_4 4 rfl rfl)
theorem dX6_twoOf_100 : decode cX6_twoOf 100 = .ok (.iload_n 3, 1) := dk_29 (dk_at dksX6_twoOf_4 5 rfl rfl)
theorem dX6_twoOf_101 : decode cX6_twoOf 101 = .ok (.iadd, 1) := dk_96 (dk_at dksX6_twoOf_4 6 rfl rfl)
theorem dX6_twoOf_102 : decode cX6_twoOf 102 = .ok (.ifCond .le 7, 3) := dk_158 0 7 (dk_at dksX6_twoOf_4 7 rfl rfl)
theorem dX6_twoOf_105 : decode cX6_twoOf 105 = .ok (.iconst 1, 1) := dk_4 (dk_at dksX6_twoOf_4 10 rfl rfl)
theorem dX6_twoOf_106 : decode cX6_twoOf 106 = .ok (.goto 4, 3) := dk_167 0 4 (dk_at dksX6_twoOf_4 11 rfl rfl)
theorem dX6_twoOf_109 : decode cX6_twoOf 109 = .ok (.iconst 0, 1) := dk_3 (dk_at dksX6_twoOf_4 14 rfl rfl)
theorem dX6_twoOf_110 : decode cX6_twoOf 110 = .ok (.ireturn, 1) := dk_172 (dk_at dksX6_twoOf_4 15 rfl rfl)
abbrev cX6_isBreaking : ByteArray := prog_17_method_46_code
def yX6_isBreaking : MethodName := ⟨RX6, "isBreaking", "(III)Z"⟩
def dkwX6_isBreaking_0 : List UInt8 := [42, 27, 28, 29, 5, 3, 182, 0, 235, 172]
abbrev dktX6_isBreaking_0 : List UInt8 := dkwX6_isBreaking_0 ++ []
theorem dksX6_isBreaking_0 : cX6_isBreaking.data.toList.drop 0 = dktX6_isBreaking_0 := by decide +kernel
theorem dX6_isBreaking_0 : decode cX6_isBreaking 0 = .ok (.aload_n 0, 1) := dk_42 (dk_at dksX6_isBreaking_0 0 rfl rfl)
theorem dX6_isBreaking_1 : decode cX6_isBreaking 1 = .ok (.iload_n 1, 1) := dk_27 (dk_at dksX6_isBreaking_0 1 rfl rfl)
theorem dX6_isBreaking_2 : decode cX6_isBreaking 2 = .ok (.iload_n 2, 1) := dk_28 (dk_at dksX6_isBreaking_0 2 rfl rfl)
theorem dX6_isBreaking_3 : decode cX6_isBreaking 3 = .ok (.iload_n 3, 1) := dk_29 (dk_at dksX6_isBreaking_0 3 rfl rfl)
theorem dX6_isBreaking_4 : decode cX6_isBreaking 4 = .ok (.iconst 2, 1) := dk_5 (dk_at dksX6_isBreaking_0 4 rfl rfl)
theorem dX6_isBreaking_5 : decode cX6_isBreaking 5 = .ok (.iconst 0, 1) := dk_3 (dk_at dksX6_isBreaking_0 5 rfl rfl)
theorem dX6_isBreaking_6 : decode cX6_isBreaking 6 = .ok (.invokevirtual 235, 3) := dk_182 0 235 (dk_at dksX6_isBreaking_0 6 rfl rfl)
theorem dX6_isBreaking_9 : decode cX6_isBreaking 9 = .ok (.ireturn, 1) := dk_172 (dk_at dksX6_isBreaking_0 9 rfl rfl)
abbrev cX6_deal : ByteArray := prog_17_method_52_code
def yX6_deal : MethodName := ⟨RX6, "deal", "(III)I"⟩
def dkwX6_deal_1 : List UInt8 := [159, 0, 21, 42, 29, 182, 0, 240, 153, 0, 13, 42, 27, 28, 29, 182, 1, 19, 167, 0, 5, 16, 254, 172]
abbrev dktX6_deal_1 : List UInt8 := dkwX6_deal_1 ++ []
def dkwX6_deal_0 : List UInt8 := [42, 3, 181, 0, 90, 42, 27, 182, 0, 113, 153, 0, 34, 42, 28, 182, 0, 113, 153, 0, 26, 27, 28]
abbrev dktX6_deal_0 : List UInt8 := dkwX6_deal_0 ++ dktX6_deal_1
theorem dksX6_deal_0 : cX6_deal.data.toList.drop 0 = dktX6_deal_0 := by decide +kernel
theorem dksX6_deal_1 : cX6_deal.data.toList.drop 23 = dktX6_deal_1 := dk_seg dksX6_deal_0 23 rfl rfl
theorem dX6_deal_0 : decode cX6_deal 0 = .ok (.aload_n 0, 1) := dk_42 (dk_at dksX6_deal_0 0 rfl rfl)
theorem dX6_deal_1 : decode cX6_deal 1 = .ok (.iconst 0, 1) := dk_3 (dk_at dksX6_deal_0 1 rfl rfl)
theorem dX6_deal_2 : decode cX6_deal 2 = .ok (.putfield 90, 3) := dk_181 0 90 (dk_at dksX6_deal_0 2 rfl rfl)
theorem dX6_deal_5 : decode cX6_deal 5 = .ok (.aload_n 0, 1) := dk_42 (dk_at dksX6_deal_0 5 rfl rfl)
theorem dX6_deal_6 : decode cX6_deal 6 = .ok (.iload_n 1, 1) := dk_27 (dk_at dksX6_deal_0 6 rfl rfl)
theorem dX6_deal_7 : decode cX6_deal 7 = .ok (.invokevirtual 113, 3) := dk_182 0 113 (dk_at dksX6_deal_0 7 rfl rfl)
theorem dX6_deal_10 : decode cX6_deal 10 = .ok (.ifCond .eq 34, 3) := dk_153 0 34 (dk_at dksX6_deal_0 10 rfl rfl)
theorem dX6_deal_13 : decode cX6_deal 13 = .ok (.aload_n 0, 1) := dk_42 (dk_at dksX6_deal_0 13 rfl rfl)
theorem dX6_deal_14 : decode cX6_deal 14 = .ok (.iload_n 2, 1) := dk_28 (dk_at dksX6_deal_0 14 rfl rfl)
theorem dX6_deal_15 : decode cX6_deal 15 = .ok (.invokevirtual 113, 3) := dk_182 0 113 (dk_at dksX6_deal_0 15 rfl rfl)
theorem dX6_deal_18 : decode cX6_deal 18 = .ok (.ifCond .eq 26, 3) := dk_153 0 26 (dk_at dksX6_deal_0 18 rfl rfl)
theorem dX6_deal_21 : decode cX6_deal 21 = .ok (.iload_n 1, 1) := dk_27 (dk_at dksX6_deal_0 21 rfl rfl)
theorem dX6_deal_22 : decode cX6_deal 22 = .ok (.iload_n 2, 1) := dk_28 (dk_at dksX6_deal_0 22 rfl rfl)
theorem dX6_deal_23 : decode cX6_deal 23 = .ok (.if_icmp .eq 21, 3) := dk_159 0 21 (dk_at dksX6_deal_1 0 rfl rfl)
theorem dX6_deal_26 : decode cX6_deal 26 = .ok (.aload_n 0, 1) := dk_42 (dk_at dksX6_deal_1 3 rfl rfl)
theorem dX6_deal_27 : decode cX6_deal 27 = .ok (.iload_n 3, 1) := dk_29 (dk_at dksX6_deal_1 4 rfl rfl)
theorem dX6_deal_28 : decode cX6_deal 28 = .ok (.invokevirtual 240, 3) := dk_182 0 240 (dk_at dksX6_deal_1 5 rfl rfl)
theorem dX6_deal_31 : decode cX6_deal 31 = .ok (.ifCond .eq 13, 3) := dk_153 0 13 (dk_at dksX6_deal_1 8 rfl rfl)
theorem dX6_deal_34 : decode cX6_deal 34 = .ok (.aload_n 0, 1) := dk_42 (dk_at dksX6_deal_1 11 rfl rfl)
theorem dX6_deal_35 : decode cX6_deal 35 = .ok (.iload_n 1, 1) := dk_27 (dk_at dksX6_deal_1 12 rfl rfl)
theorem dX6_deal_36 : decode cX6_deal 36 = .ok (.iload_n 2, 1) := dk_28 (dk_at dksX6_deal_1 13 rfl rfl)
theorem dX6_deal_37 : decode cX6_deal 37 = .ok (.iload_n 3, 1) := dk_29 (dk_at dksX6_deal_1 14 rfl rfl)
theorem dX6_deal_38 : decode cX6_deal 38 = .ok (.invokevirtual 275, 3) := dk_182 1 19 (dk_at dksX6_deal_1 15 rfl rfl)
theorem dX6_deal_41 : decode cX6_deal 41 = .ok (.goto 5, 3) := dk_167 0 5 (dk_at dksX6_deal_1 18 rfl rfl)
theorem dX6_deal_44 : decode cX6_deal 44 = .ok (.bipush (-2), 2) := dk_16 254 (dk_at dksX6_deal_1 21 rfl rfl)
theorem dX6_deal_46 : decode cX6_deal 46 = .ok (.ireturn, 1) := dk_172 (dk_at dksX6_deal_1 23 rfl rfl)
abbrev cX6_settlesDeal : ByteArray := prog_17_method_51_code
def yX6_settlesDeal : MethodName := ⟨RX6, "settlesDeal", "(III)I"⟩
def dkwX6_settlesDeal_11 : List UInt8 := [96, 181, 1, 8, 42, 180, 1, 8, 4, 100, 172]
abbrev dktX6_settlesDeal_11 : List UInt8 := dkwX6_settlesDeal_11 ++ []
def dkwX6_settlesDeal_10 : List UInt8 := [180, 0, 16, 21, 9, 8, 96, 42, 28, 21, 6, 21, 8, 29, 182, 1, 15, 79, 42, 42, 180, 1, 8, 4]
abbrev dktX6_settlesDeal_10 : List UInt8 := dkwX6_settlesDeal_10 ++ dktX6_settlesDeal_11
def dkwX6_settlesDeal_9 : List UInt8 := [182, 1, 2, 42, 180, 0, 16, 21, 9, 7, 96, 42, 27, 21, 5, 21, 7, 29, 182, 1, 15, 79, 42]
abbrev dktX6_settlesDeal_9 : List UInt8 := dkwX6_settlesDeal_9 ++ dktX6_settlesDeal_10
def dkwX6_settlesDeal_8 : List UInt8 := [21, 6, 29, 182, 1, 11, 182, 1, 2, 42, 28, 16, 7, 42, 21, 6, 21, 5, 29, 182, 1, 11]
abbrev dktX6_settlesDeal_8 : List UInt8 := dkwX6_settlesDeal_8 ++ dktX6_settlesDeal_9
def dkwX6_settlesDeal_7 : List UInt8 := [79, 42, 180, 0, 16, 21, 9, 16, 7, 96, 42, 28, 4, 182, 0, 101, 79, 42, 27, 16, 7, 42, 21, 5]
abbrev dktX6_settlesDeal_7 : List UInt8 := dkwX6_settlesDeal_7 ++ dktX6_settlesDeal_8
def dkwX6_settlesDeal_6 : List UInt8 := [180, 0, 16, 21, 9, 6, 96, 29, 79, 42, 180, 0, 16, 21, 9, 16, 6, 96, 42, 27, 4, 182, 0, 101]
abbrev dktX6_settlesDeal_6 : List UInt8 := dkwX6_settlesDeal_6 ++ dktX6_settlesDeal_7
def dkwX6_settlesDeal_5 : List UInt8 := [79, 42, 180, 0, 16, 21, 9, 4, 96, 27, 79, 42, 180, 0, 16, 21, 9, 5, 96, 28, 79, 42]
abbrev dktX6_settlesDeal_5 : List UInt8 := dkwX6_settlesDeal_5 ++ dktX6_settlesDeal_6
def dkwX6_settlesDeal_4 : List UInt8 := [160, 0, 5, 2, 172, 16, 8, 42, 180, 1, 8, 104, 54, 9, 42, 180, 0, 16, 21, 9, 42, 180, 0, 222]
abbrev dktX6_settlesDeal_4 : List UInt8 := dkwX6_settlesDeal_4 ++ dktX6_settlesDeal_5
def dkwX6_settlesDeal_3 : List UInt8 := [182, 0, 101, 157, 0, 23, 42, 28, 16, 6, 182, 0, 101, 157, 0, 13, 42, 180, 1, 8, 17, 1, 44]
abbrev dktX6_settlesDeal_3 : List UInt8 := dkwX6_settlesDeal_3 ++ dktX6_settlesDeal_4
def dkwX6_settlesDeal_2 : List UInt8 := [182, 0, 232, 54, 7, 42, 28, 29, 182, 0, 232, 54, 8, 21, 4, 153, 0, 33, 42, 27, 16, 6]
abbrev dktX6_settlesDeal_2 : List UInt8 := dkwX6_settlesDeal_2 ++ dktX6_settlesDeal_3
def dkwX6_settlesDeal_1 : List UInt8 := [3, 54, 4, 42, 27, 28, 29, 182, 0, 246, 54, 5, 42, 28, 27, 29, 182, 0, 246, 54, 6, 42, 27, 29]
abbrev dktX6_settlesDeal_1 : List UInt8 := dkwX6_settlesDeal_1 ++ dktX6_settlesDeal_2
def dkwX6_settlesDeal_0 : List UInt8 := [42, 27, 28, 29, 182, 0, 243, 153, 0, 17, 42, 28, 27, 29, 182, 0, 243, 153, 0, 7, 4, 167, 0, 4]
abbrev dktX6_settlesDeal_0 : List UInt8 := dkwX6_settlesDeal_0 ++ dktX6_settlesDeal_1
theorem dksX6_settlesDeal_0 : cX6_settlesDeal.data.toList.drop 0 = dktX6_settlesDeal_0 := by decide +kernel
theorem dksX6_settlesDeal_1 : cX6_settlesDeal.data.toList.drop 24 = dktX6_settlesDeal_1 := dk_seg dksX6_settlesDeal_0 24 rfl rfl
theorem dksX6_settlesDeal_2 : cX6_settlesDeal.data.toList.drop 48 = dktX6_settlesDeal_2 := dk_seg dksX6_settlesDeal_1 24 rfl rfl
theorem dksX6_settlesDeal_3 : cX6_settlesDeal.data.toList.drop 70 = dktX6_settlesDeal_3 := dk_seg dksX6_settlesDeal_2 22 rfl rfl
theorem dksX6_settlesDeal_4 : cX6_settlesDeal.data.toList.drop 93 = dktX6_settlesDeal_4 := dk_seg dksX6_settlesDeal_3 23 rfl rfl
theorem dksX6_settlesDeal_5 : cX6_settlesDeal.data.toList.drop 117 = dktX6_settlesDeal_5 := dk_seg dksX6_settlesDeal_4 24 rfl rfl
theorem dksX6_settlesDeal_6 : cX6_settlesDeal.data.toList.drop 139 = dktX6_settlesDeal_6 := dk_seg dksX6_settlesDeal_5 22 rfl rfl
theorem dksX6_settlesDeal_7 : cX6_settlesDeal.data.toList.drop 163 = dktX6_settlesDeal_7 := dk_seg dksX6_settlesDeal_6 24 rfl rfl
theorem dksX6_settlesDeal_8 : cX6_settlesDeal.data.toList.drop 187 = dktX6_settlesDeal_8 := dk_seg dksX6_settlesDeal_7 24 rfl rfl
theorem dksX6_settlesDeal_9 : cX6_settlesDeal.data.toList.drop 209 = dktX6_settlesDeal_9 := dk_seg dksX6_settlesDeal_8 22 rfl rfl
theorem dksX6_settlesDeal_10 : cX6_settlesDeal.data.toList.drop 232 = dktX6_settlesDeal_10 := dk_seg dksX6_settlesDeal_9 23 rfl rfl
theorem dksX6_settlesDeal_11 : cX6_settlesDeal.data.toList.drop 256 = dktX6_settlesDeal_11 := dk_seg dksX6_settlesDeal_10 24 rfl rfl
theorem dX6_settlesDeal_0 : decode cX6_settlesDeal 0 = .ok (.aload_n 0, 1) := dk_42 (dk_at dksX6_settlesDeal_0 0 rfl rfl)
theorem dX6_settlesDeal_1 : decode cX6_settlesDeal 1 = .ok (.iload_n 1, 1) := dk_27 (dk_at dksX6_settlesDeal_0 1 rfl rfl)
theorem dX6_settlesDeal_2 : decode cX6_settlesDeal 2 = .ok (.iload_n 2, 1) := dk_28 (dk_at dksX6_settlesDeal_0 2 rfl rfl)
theorem dX6_settlesDeal_3 : decode cX6_settlesDeal 3 = .ok (.iload_n 3, 1) := dk_29 (dk_at dksX6_settlesDeal_0 3 rfl rfl)
theorem dX6_settlesDeal_4 : decode cX6_settlesDeal 4 = .ok (.invokevirtual 243, 3) := dk_182 0 243 (dk_at dksX6_settlesDeal_0 4 rfl rfl)
theorem dX6_settlesDeal_7 : decode cX6_settlesDeal 7 = .ok (.ifCond .eq 17, 3) := dk_153 0 17 (dk_at dksX6_settlesDeal_0 7 rfl rfl)
theorem dX6_settlesDeal_10 : decode cX6_settlesDeal 10 = .ok (.aload_n 0, 1) := dk_42 (dk_at dksX6_settlesDeal_0 10 rfl rfl)
theorem dX6_settlesDeal_11 : decode cX6_settlesDeal 11 = .ok (.iload_n 2, 1) := dk_28 (dk_at dksX6_settlesDeal_0 11 rfl rfl)
theorem dX6_settlesDeal_12 : decode cX6_settlesDeal 12 = .ok (.iload_n 1, 1) := dk_27 (dk_at dksX6_settlesDeal_0 12 rfl rfl)
theorem dX6_settlesDeal_13 : decode cX6_settlesDeal 13 = .ok (.iload_n 3, 1) := dk_29 (dk_at dksX6_settlesDeal_0 13 rfl rfl)
theorem dX6_settlesDeal_14 : decode cX6_settlesDeal 14 = .ok (.invokevirtual 243, 3) := dk_182 0 243 (dk_at dksX6_settlesDeal_0 14 rfl rfl)
theorem dX6_settlesDeal_17 : decode cX6_settlesDeal 17 = .ok (.ifCond .eq 7, 3) := dk_153 0 7 (dk_at dksX6_settlesDeal_0 17 rfl rfl)
theorem dX6_settlesDeal_20 : decode cX6_settlesDeal 20 = .ok (.iconst 1, 1) := dk_4 (dk_at dksX6_settlesDeal_0 20 rfl rfl)
theorem dX6_settlesDeal_21 : decode cX6_settlesDeal 21 = .ok (.goto 4, 3) := dk_167 0 4 (dk_at dksX6_settlesDeal_0 21 rfl rfl)
theorem dX6_settlesDeal_24 : decode cX6_settlesDeal 24 = .ok (.iconst 0, 1) := dk_3 (dk_at dksX6_settlesDeal_1 0 rfl rfl)
theorem dX6_settlesDeal_25 : decode cX6_settlesDeal 25 = .ok (.istore 4, 2) := dk_54 4 (dk_at dksX6_settlesDeal_1 1 rfl rfl)
theorem dX6_settlesDeal_27 : decode cX6_settlesDeal 27 = .ok (.aload_n 0, 1) := dk_42 (dk_at dksX6_settlesDeal_1 3 rfl rfl)
theorem dX6_settlesDeal_28 : decode cX6_settlesDeal 28 = .ok (.iload_n 1, 1) := dk_27 (dk_at dksX6_settlesDeal_1 4 rfl rfl)
theorem dX6_settlesDeal_29 : decode cX6_settlesDeal 29 = .ok (.iload_n 2, 1) := dk_28 (dk_at dksX6_settlesDeal_1 5 rfl rfl)
theorem dX6_settlesDeal_30 : decode cX6_settlesDeal 30 = .ok (.iload_n 3, 1) := dk_29 (dk_at dksX6_settlesDeal_1 6 rfl rfl)
theorem dX6_settlesDeal_31 : decode cX6_settlesDeal 31 = .ok (.invokevirtual 246, 3) := dk_182 0 246 (dk_at dksX6_settlesDeal_1 7 rfl rfl)
theorem dX6_settlesDeal_34 : decode cX6_settlesDeal 34 = .ok (.istore 5, 2) := dk_54 5 (dk_at dksX6_settlesDeal_1 10 rfl rfl)
theorem dX6_settlesDeal_36 : decode cX6_settlesDeal 36 = .ok (.aload_n 0, 1) := dk_42 (dk_at dksX6_settlesDeal_1 12 rfl rfl)
theorem dX6_settlesDeal_37 : decode cX6_settlesDeal 37 = .ok (.iload_n 2, 1) := dk_28 (dk_at dksX6_settlesDeal_1 13 rfl rfl)
theorem dX6_settlesDeal_38 : decode cX6_settlesDeal 38 = .ok (.iload_n 1, 1) := dk_27 (dk_at dksX6_settlesDeal_1 14 rfl rfl)
theorem dX6_settlesDeal_39 : decode cX6_settlesDeal 39 = .ok (.iload_n 3, 1) := dk_29 (dk_at dksX6_settlesDeal_1 15 rfl rfl)
theorem dX6_settlesDeal_40 : decode cX6_settlesDeal 40 = .ok (.invokevirtual 246, 3) := dk_182 0 246 (dk_at dksX6_settlesDeal_1 16 rfl rfl)
theorem dX6_settlesDeal_43 : decode cX6_settlesDeal 43 = .ok (.istore 6, 2) := dk_54 6 (dk_at dksX6_settlesDeal_1 19 rfl rfl)
theorem dX6_settlesDeal_45 : decode cX6_settlesDeal 45 = .ok (.aload_n 0, 1) := dk_42 (dk_at dksX6_settlesDeal_1 21 rfl rfl)
theorem dX6_settlesDeal_46 : decode cX6_settlesDeal 46 = .ok (.iload_n 1, 1) := dk_27 (dk_at dksX6_settlesDeal_1 22 rfl rfl)
theorem dX6_settlesDeal_47 : decode cX6_settlesDeal 47 = .ok (.iload_n 3, 1) := dk_29 (dk_at dksX6_settlesDeal_1 23 rfl rfl)
theorem dX6_settlesDeal_48 : decode cX6_settlesDeal 48 = .ok (.invokevirtual 232, 3) := dk_182 0 232 (dk_at dksX6_settlesDeal_2 0 rfl rfl)
theorem dX6_settlesDeal_51 : decode cX6_settlesDeal 51 = .ok (.istore 7, 2) := dk_54 7 (dk_at dksX6_settlesDeal_2 3 rfl rfl)
theorem dX6_settlesDeal_53 : decode cX6_settlesDeal 53 = .ok (.aload_n 0, 1) := dk_42 (dk_at dksX6_settlesDeal_2 5 rfl rfl)
theorem dX6_settlesDeal_54 : decode cX6_settlesDeal 54 = .ok (.iload_n 2, 1) := dk_28 (dk_at dksX6_settlesDeal_2 6 rfl rfl)
theorem dX6_settlesDeal_55 : decode cX6_settlesDeal 55 = .ok (.iload_n 3, 1) := dk_29 (dk_at dksX6_settlesDeal_2 7 rfl rfl)
theorem dX6_settlesDeal_56 : decode cX6_settlesDeal 56 = .ok (.invokevirtual 232, 3) := dk_182 0 232 (dk_at dksX6_settlesDeal_2 8 rfl rfl)
theorem dX6_settlesDeal_59 : decode cX6_settlesDeal 59 = .ok (.istore 8, 2) := dk_54 8 (dk_at dksX6_settlesDeal_2 11 rfl rfl)
theorem dX6_settlesDeal_61 : decode cX6_settlesDeal 61 = .ok (.iload 4, 2) := dk_21 4 (dk_at dksX6_settlesDeal_2 13 rfl rfl)
theorem dX6_settlesDeal_63 : decode cX6_settlesDeal 63 = .ok (.ifCond .eq 33, 3) := dk_153 0 33 (dk_at dksX6_settlesDeal_2 15 rfl rfl)
theorem dX6_settlesDeal_66 : decode cX6_settlesDeal 66 = .ok (.aload_n 0, 1) := dk_42 (dk_at dksX6_settlesDeal_2 18 rfl rfl)
theorem dX6_settlesDeal_67 : decode cX6_settlesDeal 67 = .ok (.iload_n 1, 1) := dk_27 (dk_at dksX6_settlesDeal_2 19 rfl rfl)
theorem dX6_settlesDeal_68 : decode cX6_settlesDeal 68 = .ok (.bipush 6, 2) := dk_16 6 (dk_at dksX6_settlesDeal_2 20 rfl rfl)
theorem dX6_settlesDeal_70 : decode cX6_settlesDeal 70 = .ok (.invokevirtual 101, 3) := dk_182 0 101 (dk_at dksX6_settlesDeal_3 0 rfl rfl)
theorem dX6_settlesDeal_73 : decode cX6_settlesDeal 73 = .ok (.ifCond .gt 23, 3) := dk_157 0 23 (dk_at dksX6_settlesDeal_3 3 rfl rfl)
theorem dX6_settlesDeal_76 : decode cX6_settlesDeal 76 = .ok (.aload_n 0, 1) := dk_42 (dk_at dksX6_settlesDeal_3 6 rfl rfl)
theorem dX6_settlesDeal_77 : decode cX6_settlesDeal 77 = .ok (.iload_n 2, 1) := dk_28 (dk_at dksX6_settlesDeal_3 7 rfl rfl)
theorem dX6_settlesDeal_78 : decode cX6_settlesDeal 78 = .ok (.bipush 6, 2) := dk_16 6 (dk_at dksX6_settlesDeal_3 8 rfl rfl)
theorem dX6_settlesDeal_80 : decode cX6_settlesDeal 80 = .ok (.invokevirtual 101, 3) := dk_182 0 101 (dk_at dksX6_settlesDeal_3 10 rfl rfl)
theorem dX6_settlesDeal_83 : decode cX6_settlesDeal 83 = .ok (.ifCond .gt 13, 3) := dk_157 0 13 (dk_at dksX6_settlesDeal_3 13 rfl rfl)
theorem dX6_settlesDeal_86 : decode cX6_settlesDeal 86 = .ok (.aload_n 0, 1) := dk_42 (dk_at dksX6_settlesDeal_3 16 rfl rfl)
theorem dX6_settlesDeal_87 : decode cX6_settlesDeal 87 = .ok (.getfield 264, 3) := dk_180 1 8 (dk_at dksX6_settlesDeal_3 17 rfl rfl)
theorem dX6_settlesDeal_90 : decode cX6_settlesDeal 90 = .ok (.sipush 300, 3) := dk_17 1 44 (dk_at dksX6_settlesDeal_3 20 rfl rfl)
theorem dX6_settlesDeal_93 : decode cX6_settlesDeal 93 = .ok (.if_icmp .ne 5, 3) := dk_160 0 5 (dk_at dksX6_settlesDeal_4 0 rfl rfl)
theorem dX6_settlesDeal_96 : decode cX6_settlesDeal 96 = .ok (.iconst (-1), 1) := dk_2 (dk_at dksX6_settlesDeal_4 3 rfl rfl)
theorem dX6_settlesDeal_97 : decode cX6_settlesDeal 97 = .ok (.ireturn, 1) := dk_172 (dk_at dksX6_settlesDeal_4 4 rfl rfl)
theorem dX6_settlesDeal_98 : decode cX6_settlesDeal 98 = .ok (.bipush 8, 2) := dk_16 8 (dk_at dksX6_settlesDeal_4 5 rfl rfl)
theorem dX6_settlesDeal_100 : decode cX6_settlesDeal 100 = .ok (.aload_n 0, 1) := dk_42 (dk_at dksX6_settlesDeal_4 7 rfl rfl)
theorem dX6_settlesDeal_101 : decode cX6_settlesDeal 101 = .ok (.getfield 264, 3) := dk_180 1 8 (dk_at dksX6_settlesDeal_4 8 rfl rfl)
theorem dX6_settlesDeal_104 : decode cX6_settlesDeal 104 = .ok (.imul, 1) := dk_104 (dk_at dksX6_settlesDeal_4 11 rfl rfl)
theorem dX6_settlesDeal_105 : decode cX6_settlesDeal 105 = .ok (.istore 9, 2) := dk_54 9 (dk_at dksX6_settlesDeal_4 12 rfl rfl)
theorem dX6_settlesDeal_107 : decode cX6_settlesDeal 107 = .ok (.aload_n 0, 1) := dk_42 (dk_at dksX6_settlesDeal_4 14 rfl rfl)
theorem dX6_settlesDeal_108 : decode cX6_settlesDeal 108 = .ok (.getfield 16, 3) := dk_180 0 16 (dk_at dksX6_settlesDeal_4 15 rfl rfl)
theorem dX6_settlesDeal_111 : decode cX6_settlesDeal 111 = .ok (.iload 9, 2) := dk_21 9 (dk_at dksX6_settlesDeal_4 18 rfl rfl)
theorem dX6_settlesDeal_113 : decode cX6_settlesDeal 113 = .ok (.aload_n 0, 1) := dk_42 (dk_at dksX6_settlesDeal_4 20 rfl rfl)
theorem dX6_settlesDeal_114 : decode cX6_settlesDeal 114 = .ok (.getfield 222, 3) := dk_180 0 222 (dk_at dksX6_settlesDeal_4 21 rfl rfl)
theorem dX6_settlesDeal_117 : decode cX6_settlesDeal 117 = .ok (.iastore, 1) := dk_79 (dk_at dksX6_settlesDeal_5 0 rfl rfl)
theorem dX6_settlesDeal_118 : decode cX6_settlesDeal 118 = .ok (.aload_n 0, 1) := dk_42 (dk_at dksX6_settlesDeal_5 1 rfl rfl)
theorem dX6_settlesDeal_119 : decode cX6_settlesDeal 119 = .ok (.getfield 16, 3) := dk_180 0 16 (dk_at dksX6_settlesDeal_5 2 rfl rfl)
theorem dX6_settlesDeal_122 : decode cX6_settlesDeal 122 = .ok (.iload 9, 2) := dk_21 9 (dk_at dksX6_settlesDeal_5 5 rfl rfl)
theorem dX6_settlesDeal_124 : decode cX6_settlesDeal 124 = .ok (.iconst 1, 1) := dk_4 (dk_at dksX6_settlesDeal_5 7 rfl rfl)
theorem dX6_settlesDeal_125 : decode cX6_settlesDeal 125 = .ok (.iadd, 1) := dk_96 (dk_at dksX6_settlesDeal_5 8 rfl rfl)
theorem dX6_settlesDeal_126 : decode cX6_settlesDeal 126 = .ok (.iload_n 1, 1) := dk_27 (dk_at dksX6_settlesDeal_5 9 rfl rfl)
theorem dX6_settlesDeal_127 : decode cX6_settlesDeal 127 = .ok (.iastore, 1) := dk_79 (dk_at dksX6_settlesDeal_5 10 rfl rfl)
theorem dX6_settlesDeal_128 : decode cX6_settlesDeal 128 = .ok (.aload_n 0, 1) := dk_42 (dk_at dksX6_settlesDeal_5 11 rfl rfl)
theorem dX6_settlesDeal_129 : decode cX6_settlesDeal 129 = .ok (.getfield 16, 3) := dk_180 0 16 (dk_at dksX6_settlesDeal_5 12 rfl rfl)
theorem dX6_settlesDeal_132 : decode cX6_settlesDeal 132 = .ok (.iload 9, 2) := dk_21 9 (dk_at dksX6_settlesDeal_5 15 rfl rfl)
theorem dX6_settlesDeal_134 : decode cX6_settlesDeal 134 = .ok (.iconst 2, 1) := dk_5 (dk_at dksX6_settlesDeal_5 17 rfl rfl)
theorem dX6_settlesDeal_135 : decode cX6_settlesDeal 135 = .ok (.iadd, 1) := dk_96 (dk_at dksX6_settlesDeal_5 18 rfl rfl)
theorem dX6_settlesDeal_136 : decode cX6_settlesDeal 136 = .ok (.iload_n 2, 1) := dk_28 (dk_at dksX6_settlesDeal_5 19 rfl rfl)
theorem dX6_settlesDeal_137 : decode cX6_settlesDeal 137 = .ok (.iastore, 1) := dk_79 (dk_at dksX6_settlesDeal_5 20 rfl rfl)
theorem dX6_settlesDeal_138 : decode cX6_settlesDeal 138 = .ok (.aload_n 0, 1) := dk_42 (dk_at dksX6_settlesDeal_5 21 rfl rfl)
theorem dX6_settlesDeal_139 : decode cX6_settlesDeal 139 = .ok (.getfield 16, 3) := dk_180 0 16 (dk_at dksX6_settlesDeal_6 0 rfl rfl)
theorem dX6_settlesDeal_142 : decode cX6_settlesDeal 142 = .ok (.iload 9, 2) := dk_21 9 (dk_at dksX6_settlesDeal_6 3 rfl rfl)
theorem dX6_settlesDeal_144 : decode cX6_settlesDeal 144 = .ok (.iconst 3, 1) := dk_6 (dk_at dksX6_settlesDeal_6 5 rfl rfl)
theorem dX6_settlesDeal_145 : decode cX6_settlesDeal 145 = .ok (.iadd, 1) := dk_96 (dk_at dksX6_settlesDeal_6 6 rfl rfl)
theorem dX6_settlesDeal_146 : decode cX6_settlesDeal 146 = .ok (.iload_n 3, 1) := dk_29 (dk_at dksX6_settlesDeal_6 7 rfl rfl)
theorem dX6_settlesDeal_147 : decode cX6_settlesDeal 147 = .ok (.iastore, 1) := dk_79 (dk_at dksX6_settlesDeal_6 8 rfl rfl)
theorem dX6_settlesDeal_148 : decode cX6_settlesDeal 148 = .ok (.aload_n 0, 1) := dk_42 (dk_at dksX6_settlesDeal_6 9 rfl rfl)
theorem dX6_settlesDeal_149 : decode cX6_settlesDeal 149 = .ok (.getfield 16, 3) := dk_180 0 16 (dk_at dksX6_settlesDeal_6 10 rfl rfl)
theorem dX6_settlesDeal_152 : decode cX6_settlesDeal 152 = .ok (.iload 9, 2) := dk_21 9 (dk_at dksX6_settlesDeal_6 13 rfl rfl)
theorem dX6_settlesDeal_154 : decode cX6_settlesDeal 154 = .ok (.bipush 6, 2) := dk_16 6 (dk_at dksX6_settlesDeal_6 15 rfl rfl)
theorem dX6_settlesDeal_156 : decode cX6_settlesDeal 156 = .ok (.iadd, 1) := dk_96 (dk_at dksX6_settlesDeal_6 17 rfl rfl)
theorem dX6_settlesDeal_157 : decode cX6_settlesDeal 157 = .ok (.aload_n 0, 1) := dk_42 (dk_at dksX6_settlesDeal_6 18 rfl rfl)
theorem dX6_settlesDeal_158 : decode cX6_settlesDeal 158 = .ok (.iload_n 1, 1) := dk_27 (dk_at dksX6_settlesDeal_6 19 rfl rfl)
theorem dX6_settlesDeal_159 : decode cX6_settlesDeal 159 = .ok (.iconst 1, 1) := dk_4 (dk_at dksX6_settlesDeal_6 20 rfl rfl)
theorem dX6_settlesDeal_160 : decode cX6_settlesDeal 160 = .ok (.invokevirtual 101, 3) := dk_182 0 101 (dk_at dksX6_settlesDeal_6 21 rfl rfl)
theorem dX6_settlesDeal_163 : decode cX6_settlesDeal 163 = .ok (.iastore, 1) := dk_79 (dk_at dksX6_settlesDeal_7 0 rfl rfl)
theorem dX6_settlesDeal_164 : decode cX6_settlesDeal 164 = .ok (.aload_n 0, 1) := dk_42 (dk_at dksX6_settlesDeal_7 1 rfl rfl)
theorem dX6_settlesDeal_165 : decode cX6_settlesDeal 165 = .ok (.getfield 16, 3) := dk_180 0 16 (dk_at dksX6_settlesDeal_7 2 rfl rfl)
theorem dX6_settlesDeal_168 : decode cX6_settlesDeal 168 = .ok (.iload 9, 2) := dk_21 9 (dk_at dksX6_settlesDeal_7 5 rfl rfl)
theorem dX6_settlesDeal_170 : decode cX6_settlesDeal 170 = .ok (.bipush 7, 2) := dk_16 7 (dk_at dksX6_settlesDeal_7 7 rfl rfl)
theorem dX6_settlesDeal_172 : decode cX6_settlesDeal 172 = .ok (.iadd, 1) := dk_96 (dk_at dksX6_settlesDeal_7 9 rfl rfl)
theorem dX6_settlesDeal_173 : decode cX6_settlesDeal 173 = .ok (.aload_n 0, 1) := dk_42 (dk_at dksX6_settlesDeal_7 10 rfl rfl)
theorem dX6_settlesDeal_174 : decode cX6_settlesDeal 174 = .ok (.iload_n 2, 1) := dk_28 (dk_at dksX6_settlesDeal_7 11 rfl rfl)
theorem dX6_settlesDeal_175 : decode cX6_settlesDeal 175 = .ok (.iconst 1, 1) := dk_4 (dk_at dksX6_settlesDeal_7 12 rfl rfl)
theorem dX6_settlesDeal_176 : decode cX6_settlesDeal 176 = .ok (.invokevirtual 101, 3) := dk_182 0 101 (dk_at dksX6_settlesDeal_7 13 rfl rfl)
theorem dX6_settlesDeal_179 : decode cX6_settlesDeal 179 = .ok (.iastore, 1) := dk_79 (dk_at dksX6_settlesDeal_7 16 rfl rfl)
theorem dX6_settlesDeal_180 : decode cX6_settlesDeal 180 = .ok (.aload_n 0, 1) := dk_42 (dk_at dksX6_settlesDeal_7 17 rfl rfl)
theorem dX6_settlesDeal_181 : decode cX6_settlesDeal 181 = .ok (.iload_n 1, 1) := dk_27 (dk_at dksX6_settlesDeal_7 18 rfl rfl)
theorem dX6_settlesDeal_182 : decode cX6_settlesDeal 182 = .ok (.bipush 7, 2) := dk_16 7 (dk_at dksX6_settlesDeal_7 19 rfl rfl)
theorem dX6_settlesDeal_184 : decode cX6_settlesDeal 184 = .ok (.aload_n 0, 1) := dk_42 (dk_at dksX6_settlesDeal_7 21 rfl rfl)
theorem dX6_settlesDeal_185 : decode cX6_settlesDeal 185 = .ok (.iload 5, 2) := dk_21 5 (dk_at dksX6_settlesDeal_7 22 rfl rfl)
theorem dX6_settlesDeal_187 : decode cX6_settlesDeal 187 = .ok (.iload 6, 2) := dk_21 6 (dk_at dksX6_settlesDeal_8 0 rfl rfl)
theorem dX6_settlesDeal_189 : decode cX6_settlesDeal 189 = .ok (.iload_n 3, 1) := dk_29 (dk_at dksX6_settlesDeal_8 2 rfl rfl)
theorem dX6_settlesDeal_190 : decode cX6_settlesDeal 190 = .ok (.invokevirtual 267, 3) := dk_182 1 11 (dk_at dksX6_settlesDeal_8 3 rfl rfl)
theorem dX6_settlesDeal_193 : decode cX6_settlesDeal 193 = .ok (.invokevirtual 258, 3) := dk_182 1 2 (dk_at dksX6_settlesDeal_8 6 rfl rfl)
theorem dX6_settlesDeal_196 : decode cX6_settlesDeal 196 = .ok (.aload_n 0, 1) := dk_42 (dk_at dksX6_settlesDeal_8 9 rfl rfl)
theorem dX6_settlesDeal_197 : decode cX6_settlesDeal 197 = .ok (.iload_n 2, 1) := dk_28 (dk_at dksX6_settlesDeal_8 10 rfl rfl)
theorem dX6_settlesDeal_198 : decode cX6_settlesDeal 198 = .ok (.bipush 7, 2) := dk_16 7 (dk_at dksX6_settlesDeal_8 11 rfl rfl)
theorem dX6_settlesDeal_200 : decode cX6_settlesDeal 200 = .ok (.aload_n 0, 1) := dk_42 (dk_at dksX6_settlesDeal_8 13 rfl rfl)
theorem dX6_settlesDeal_201 : decode cX6_settlesDeal 201 = .ok (.iload 6, 2) := dk_21 6 (dk_at dksX6_settlesDeal_8 14 rfl rfl)
theorem dX6_settlesDeal_203 : decode cX6_settlesDeal 203 = .ok (.iload 5, 2) := dk_21 5 (dk_at dksX6_settlesDeal_8 16 rfl rfl)
theorem dX6_settlesDeal_205 : decode cX6_settlesDeal 205 = .ok (.iload_n 3, 1) := dk_29 (dk_at dksX6_settlesDeal_8 18 rfl rfl)
theorem dX6_settlesDeal_206 : decode cX6_settlesDeal 206 = .ok (.invokevirtual 267, 3) := dk_182 1 11 (dk_at dksX6_settlesDeal_8 19 rfl rfl)
theorem dX6_settlesDeal_209 : decode cX6_settlesDeal 209 = .ok (.invokevirtual 258, 3) := dk_182 1 2 (dk_at dksX6_settlesDeal_9 0 rfl rfl)
theorem dX6_settlesDeal_212 : decode cX6_settlesDeal 212 = .ok (.aload_n 0, 1) := dk_42 (dk_at dksX6_settlesDeal_9 3 rfl rfl)
theorem dX6_settlesDeal_213 : decode cX6_settlesDeal 213 = .ok (.getfield 16, 3) := dk_180 0 16 (dk_at dksX6_settlesDeal_9 4 rfl rfl)
theorem dX6_settlesDeal_216 : decode cX6_settlesDeal 216 = .ok (.iload 9, 2) := dk_21 9 (dk_at dksX6_settlesDeal_9 7 rfl rfl)
theorem dX6_settlesDeal_218 : decode cX6_settlesDeal 218 = .ok (.iconst 4, 1) := dk_7 (dk_at dksX6_settlesDeal_9 9 rfl rfl)
theorem dX6_settlesDeal_219 : decode cX6_settlesDeal 219 = .ok (.iadd, 1) := dk_96 (dk_at dksX6_settlesDeal_9 10 rfl rfl)
theorem dX6_settlesDeal_220 : decode cX6_settlesDeal 220 = .ok (.aload_n 0, 1) := dk_42 (dk_at dksX6_settlesDeal_9 11 rfl rfl)
theorem dX6_settlesDeal_221 : decode cX6_settlesDeal 221 = .ok (.iload_n 1, 1) := dk_27 (dk_at dksX6_settlesDeal_9 12 rfl rfl)
theorem dX6_settlesDeal_222 : decode cX6_settlesDeal 222 = .ok (.iload 5, 2) := dk_21 5 (dk_at dksX6_settlesDeal_9 13 rfl rfl)
theorem dX6_settlesDeal_224 : decode cX6_settlesDeal 224 = .ok (.iload 7, 2) := dk_21 7 (dk_at dksX6_settlesDeal_9 15 rfl rfl)
theorem dX6_settlesDeal_226 : decode cX6_settlesDeal 226 = .ok (.iload_n 3, 1) := dk_29 (dk_at dksX6_settlesDeal_9 17 rfl rfl)
theorem dX6_settlesDeal_227 : decode cX6_settlesDeal 227 = .ok (.invokevirtual 271, 3) := dk_182 1 15 (dk_at dksX6_settlesDeal_9 18 rfl rfl)
theorem dX6_settlesDeal_230 : decode cX6_settlesDeal 230 = .ok (.iastore, 1) := dk_79 (dk_at dksX6_settlesDeal_9 21 rfl rfl)
theorem dX6_settlesDeal_231 : decode cX6_settlesDeal 231 = .ok (.aload_n 0, 1) := dk_42 (dk_at dksX6_settlesDeal_9 22 rfl rfl)
theorem dX6_settlesDeal_232 : decode cX6_settlesDeal 232 = .ok (.getfield 16, 3) := dk_180 0 16 (dk_at dksX6_settlesDeal_10 0 rfl rfl)
theorem dX6_settlesDeal_235 : decode cX6_settlesDeal 235 = .ok (.iload 9, 2) := dk_21 9 (dk_at dksX6_settlesDeal_10 3 rfl rfl)
theorem dX6_settlesDeal_237 : decode cX6_settlesDeal 237 = .ok (.iconst 5, 1) := dk_8 (dk_at dksX6_settlesDeal_10 5 rfl rfl)
theorem dX6_settlesDeal_238 : decode cX6_settlesDeal 238 = .ok (.iadd, 1) := dk_96 (dk_at dksX6_settlesDeal_10 6 rfl rfl)
theorem dX6_settlesDeal_239 : decode cX6_settlesDeal 239 = .ok (.aload_n 0, 1) := dk_42 (dk_at dksX6_settlesDeal_10 7 rfl rfl)
theorem dX6_settlesDeal_240 : decode cX6_settlesDeal 240 = .ok (.iload_n 2, 1) := dk_28 (dk_at dksX6_settlesDeal_10 8 rfl rfl)
theorem dX6_settlesDeal_241 : decode cX6_settlesDeal 241 = .ok (.iload 6, 2) := dk_21 6 (dk_at dksX6_settlesDeal_10 9 rfl rfl)
theorem dX6_settlesDeal_243 : decode cX6_settlesDeal 243 = .ok (.iload 8, 2) := dk_21 8 (dk_at dksX6_settlesDeal_10 11 rfl rfl)
theorem dX6_settlesDeal_245 : decode cX6_settlesDeal 245 = .ok (.iload_n 3, 1) := dk_29 (dk_at dksX6_settlesDeal_10 13 rfl rfl)
theorem dX6_settlesDeal_246 : decode cX6_settlesDeal 246 = .ok (.invokevirtual 271, 3) := dk_182 1 15 (dk_at dksX6_settlesDeal_10 14 rfl rfl)
theorem dX6_settlesDeal_249 : decode cX6_settlesDeal 249 = .ok (.iastore, 1) := dk_79 (dk_at dksX6_settlesDeal_10 17 rfl rfl)
theorem dX6_settlesDeal_250 : decode cX6_settlesDeal 250 = .ok (.aload_n 0, 1) := dk_42 (dk_at dksX6_settlesDeal_10 18 rfl rfl)
theorem dX6_settlesDeal_251 : decode cX6_settlesDeal 251 = .ok (.aload_n 0, 1) := dk_42 (dk_at dksX6_settlesDeal_10 19 rfl rfl)
theorem dX6_settlesDeal_252 : decode cX6_settlesDeal 252 = .ok (.getfield 264, 3) := dk_180 1 8 (dk_at dksX6_settlesDeal_10 20 rfl rfl)
theorem dX6_settlesDeal_255 : decode cX6_settlesDeal 255 = .ok (.iconst 1, 1) := dk_4 (dk_at dksX6_settlesDeal_10 23 rfl rfl)
theorem dX6_settlesDeal_256 : decode cX6_settlesDeal 256 = .ok (.iadd, 1) := dk_96 (dk_at dksX6_settlesDeal_11 0 rfl rfl)
theorem dX6_settlesDeal_257 : decode cX6_settlesDeal 257 = .ok (.putfield 264, 3) := dk_181 1 8 (dk_at dksX6_settlesDeal_11 1 rfl rfl)
theorem dX6_settlesDeal_260 : decode cX6_settlesDeal 260 = .ok (.aload_n 0, 1) := dk_42 (dk_at dksX6_settlesDeal_11 4 rfl rfl)
theorem dX6_settlesDeal_261 : decode cX6_settlesDeal 261 = .ok (.getfield 264, 3) := dk_180 1 8 (dk_at dksX6_settlesDeal_11 5 rfl rfl)
theorem dX6_settlesDeal_264 : decode cX6_settlesDeal 264 = .ok (.iconst 1, 1) := dk_4 (dk_at dksX6_settlesDeal_11 8 rfl rfl)
theorem dX6_settlesDeal_265 : decode cX6_settlesDeal 265 = .ok (.isub, 1) := dk_100 (dk_at dksX6_settlesDeal_11 9 rfl rfl)
theorem dX6_settlesDeal_266 : decode cX6_settlesDeal 266 = .ok (.ireturn, 1) := dk_172 (dk_at dksX6_settlesDeal_11 10 rfl rfl)
abbrev cX6_worthOf : ByteArray := prog_17_method_49_code
def yX6_worthOf : MethodName := ⟨RX6, "worthOf", "(ZZI)I"⟩
def dkwX6_worthOf_2 : List UInt8 := [180, 0, 13, 3, 46, 29, 104, 172]
abbrev dktX6_worthOf_2 : List UInt8 := dkwX6_worthOf_2 ++ []
def dkwX6_worthOf_1 : List UInt8 := [4, 46, 29, 104, 172, 28, 153, 0, 15, 42, 180, 0, 13, 5, 46, 116, 29, 104, 167, 0, 11, 42]
abbrev dktX6_worthOf_1 : List UInt8 := dkwX6_worthOf_1 ++ dktX6_worthOf_2
def dkwX6_worthOf_0 : List UInt8 := [27, 153, 0, 28, 28, 153, 0, 15, 42, 180, 0, 13, 6, 46, 116, 29, 104, 167, 0, 11, 42, 180, 0, 13]
abbrev dktX6_worthOf_0 : List UInt8 := dkwX6_worthOf_0 ++ dktX6_worthOf_1
theorem dksX6_worthOf_0 : cX6_worthOf.data.toList.drop 0 = dktX6_worthOf_0 := by decide +kernel
theorem dksX6_worthOf_1 : cX6_worthOf.data.toList.drop 24 = dktX6_worthOf_1 := dk_seg dksX6_worthOf_0 24 rfl rfl
theorem dksX6_worthOf_2 : cX6_worthOf.data.toList.drop 46 = dktX6_worthOf_2 := dk_seg dksX6_worthOf_1 22 rfl rfl
theorem dX6_worthOf_0 : decode cX6_worthOf 0 = .ok (.iload_n 1, 1) := dk_27 (dk_at dksX6_worthOf_0 0 rfl rfl)
theorem dX6_worthOf_1 : decode cX6_worthOf 1 = .ok (.ifCond .eq 28, 3) := dk_153 0 28 (dk_at dksX6_worthOf_0 1 rfl rfl)
theorem dX6_worthOf_4 : decode cX6_worthOf 4 = .ok (.iload_n 2, 1) := dk_28 (dk_at dksX6_worthOf_0 4 rfl rfl)
theorem dX6_worthOf_5 : decode cX6_worthOf 5 = .ok (.ifCond .eq 15, 3) := dk_153 0 15 (dk_at dksX6_worthOf_0 5 rfl rfl)
theorem dX6_worthOf_8 : decode cX6_worthOf 8 = .ok (.aload_n 0, 1) := dk_42 (dk_at dksX6_worthOf_0 8 rfl rfl)
theorem dX6_worthOf_9 : decode cX6_worthOf 9 = .ok (.getfield 13, 3) := dk_180 0 13 (dk_at dksX6_worthOf_0 9 rfl rfl)
theorem dX6_worthOf_12 : decode cX6_worthOf 12 = .ok (.iconst 3, 1) := dk_6 (dk_at dksX6_worthOf_0 12 rfl rfl)
theorem dX6_worthOf_13 : decode cX6_worthOf 13 = .ok (.iaload, 1) := dk_46 (dk_at dksX6_worthOf_0 13 rfl rfl)
theorem dX6_worthOf_14 : decode cX6_worthOf 14 = .ok (.ineg, 1) := dk_116 (dk_at dksX6_worthOf_0 14 rfl rfl)
theorem dX6_worthOf_15 : decode cX6_worthOf 15 = .ok (.iload_n 3, 1) := dk_29 (dk_at dksX6_worthOf_0 15 rfl rfl)
theorem dX6_worthOf_16 : decode cX6_worthOf 16 = .ok (.imul, 1) := dk_104 (dk_at dksX6_worthOf_0 16 rfl rfl)
theorem dX6_worthOf_17 : decode cX6_worthOf 17 = .ok (.goto 11, 3) := dk_167 0 11 (dk_at dksX6_worthOf_0 17 rfl rfl)
theorem dX6_worthOf_20 : decode cX6_worthOf 20 = .ok (.aload_n 0, 1) := dk_42 (dk_at dksX6_worthOf_0 20 rfl rfl)
theorem dX6_worthOf_21 : decode cX6_worthOf 21 = .ok (.getfield 13, 3) := dk_180 0 13 (dk_at dksX6_worthOf_0 21 rfl rfl)
theorem dX6_worthOf_24 : decode cX6_worthOf 24 = .ok (.iconst 1, 1) := dk_4 (dk_at dksX6_worthOf_1 0 rfl rfl)
theorem dX6_worthOf_25 : decode cX6_worthOf 25 = .ok (.iaload, 1) := dk_46 (dk_at dksX6_worthOf_1 1 rfl rfl)
theorem dX6_worthOf_26 : decode cX6_worthOf 26 = .ok (.iload_n 3, 1) := dk_29 (dk_at dksX6_worthOf_1 2 rfl rfl)
theorem dX6_worthOf_27 : decode cX6_worthOf 27 = .ok (.imul, 1) := dk_104 (dk_at dksX6_worthOf_1 3 rfl rfl)
theorem dX6_worthOf_28 : decode cX6_worthOf 28 = .ok (.ireturn, 1) := dk_172 (dk_at dksX6_worthOf_1 4 rfl rfl)
theorem dX6_worthOf_29 : decode cX6_worthOf 29 = .ok (.iload_n 2, 1) := dk_28 (dk_at dksX6_worthOf_1 5 rfl rfl)
theorem dX6_worthOf_30 : decode cX6_worthOf 30 = .ok (.ifCond .eq 15, 3) := dk_153 0 15 (dk_at dksX6_worthOf_1 6 rfl rfl)
theorem dX6_worthOf_33 : decode cX6_worthOf 33 = .ok (.aload_n 0, 1) := dk_42 (dk_at dksX6_worthOf_1 9 rfl rfl)
theorem dX6_worthOf_34 : decode cX6_worthOf 34 = .ok (.getfield 13, 3) := dk_180 0 13 (dk_at dksX6_worthOf_1 10 rfl rfl)
theorem dX6_worthOf_37 : decode cX6_worthOf 37 = .ok (.iconst 2, 1) := dk_5 (dk_at dksX6_worthOf_1 13 rfl rfl)
theorem dX6_worthOf_38 : decode cX6_worthOf 38 = .ok (.iaload, 1) := dk_46 (dk_at dksX6_worthOf_1 14 rfl rfl)
theorem dX6_worthOf_39 : decode cX6_worthOf 39 = .ok (.ineg, 1) := dk_116 (dk_at dksX6_worthOf_1 15 rfl rfl)
theorem dX6_worthOf_40 : decode cX6_worthOf 40 = .ok (.iload_n 3, 1) := dk_29 (dk_at dksX6_worthOf_1 16 rfl rfl)
theorem dX6_worthOf_41 : decode cX6_worthOf 41 = .ok (.imul, 1) := dk_104 (dk_at dksX6_worthOf_1 17 rfl rfl)
theorem dX6_worthOf_42 : decode cX6_worthOf 42 = .ok (.goto 11, 3) := dk_167 0 11 (dk_at dksX6_worthOf_1 18 rfl rfl)
theorem dX6_worthOf_45 : decode cX6_worthOf 45 = .ok (.aload_n 0, 1) := dk_42 (dk_at dksX6_worthOf_1 21 rfl rfl)
theorem dX6_worthOf_46 : decode cX6_worthOf 46 = .ok (.getfield 13, 3) := dk_180 0 13 (dk_at dksX6_worthOf_2 0 rfl rfl)
theorem dX6_worthOf_49 : decode cX6_worthOf 49 = .ok (.iconst 0, 1) := dk_3 (dk_at dksX6_worthOf_2 3 rfl rfl)
theorem dX6_worthOf_50 : decode cX6_worthOf 50 = .ok (.iaload, 1) := dk_46 (dk_at dksX6_worthOf_2 4 rfl rfl)
theorem dX6_worthOf_51 : decode cX6_worthOf 51 = .ok (.iload_n 3, 1) := dk_29 (dk_at dksX6_worthOf_2 5 rfl rfl)
theorem dX6_worthOf_52 : decode cX6_worthOf 52 = .ok (.imul, 1) := dk_104 (dk_at dksX6_worthOf_2 6 rfl rfl)
theorem dX6_worthOf_53 : decode cX6_worthOf 53 = .ok (.ireturn, 1) := dk_172 (dk_at dksX6_worthOf_2 7 rfl rfl)
abbrev cX6_adds : ByteArray := prog_17_method_10_code
def yX6_adds : MethodName := ⟨RX6, "adds", "(III)V"⟩
def dkwX6_adds_1 : List UInt8 := [177]
abbrev dktX6_adds_1 : List UInt8 := dkwX6_adds_1 ++ []
def dkwX6_adds_0 : List UInt8 := [42, 180, 0, 7, 16, 9, 27, 104, 28, 96, 42, 180, 0, 7, 16, 9, 27, 104, 28, 96, 46, 29, 96, 79]
abbrev dktX6_adds_0 : List UInt8 := dkwX6_adds_0 ++ dktX6_adds_1
theorem dksX6_adds_0 : cX6_adds.data.toList.drop 0 = dktX6_adds_0 := by decide +kernel
theorem dksX6_adds_1 : cX6_adds.data.toList.drop 24 = dktX6_adds_1 := dk_seg dksX6_adds_0 24 rfl rfl
theorem dX6_adds_0 : decode cX6_adds 0 = .ok (.aload_n 0, 1) := dk_42 (dk_at dksX6_adds_0 0 rfl rfl)
theorem dX6_adds_1 : decode cX6_adds 1 = .ok (.getfield 7, 3) := dk_180 0 7 (dk_at dksX6_adds_0 1 rfl rfl)
theorem dX6_adds_4 : decode cX6_adds 4 = .ok (.bipush 9, 2) := dk_16 9 (dk_at dksX6_adds_0 4 rfl rfl)
theorem dX6_adds_6 : decode cX6_adds 6 = .ok (.iload_n 1, 1) := dk_27 (dk_at dksX6_adds_0 6 rfl rfl)
theorem dX6_adds_7 : decode cX6_adds 7 = .ok (.imul, 1) := dk_104 (dk_at dksX6_adds_0 7 rfl rfl)
theorem dX6_adds_8 : decode cX6_adds 8 = .ok (.iload_n 2, 1) := dk_28 (dk_at dksX6_adds_0 8 rfl rfl)
theorem dX6_adds_9 : decode cX6_adds 9 = .ok (.iadd, 1) := dk_96 (dk_at dksX6_adds_0 9 rfl rfl)
theorem dX6_adds_10 : decode cX6_adds 10 = .ok (.aload_n 0, 1) := dk_42 (dk_at dksX6_adds_0 10 rfl rfl)
theorem dX6_adds_11 : decode cX6_adds 11 = .ok (.getfield 7, 3) := dk_180 0 7 (dk_at dksX6_adds_0 11 rfl rfl)
theorem dX6_adds_14 : decode cX6_adds 14 = .ok (.bipush 9, 2) := dk_16 9 (dk_at dksX6_adds_0 14 rfl rfl)
theorem dX6_adds_16 : decode cX6_adds 16 = .ok (.iload_n 1, 1) := dk_27 (dk_at dksX6_adds_0 16 rfl rfl)
theorem dX6_adds_17 : decode cX6_adds 17 = .ok (.imul, 1) := dk_104 (dk_at dksX6_adds_0 17 rfl rfl)
theorem dX6_adds_18 : decode cX6_adds 18 = .ok (.iload_n 2, 1) := dk_28 (dk_at dksX6_adds_0 18 rfl rfl)
theorem dX6_adds_19 : decode cX6_adds 19 = .ok (.iadd, 1) := dk_96 (dk_at dksX6_adds_0 19 rfl rfl)
theorem dX6_adds_20 : decode cX6_adds 20 = .ok (.iaload, 1) := dk_46 (dk_at dksX6_adds_0 20 rfl rfl)
theorem dX6_adds_21 : decode cX6_adds 21 = .ok (.iload_n 3, 1) := dk_29 (dk_at dksX6_adds_0 21 rfl rfl)
theorem dX6_adds_22 : decode cX6_adds 22 = .ok (.iadd, 1) := dk_96 (dk_at dksX6_adds_0 22 rfl rfl)
theorem dX6_adds_23 : decode cX6_adds 23 = .ok (.iastore, 1) := dk_79 (dk_at dksX6_adds_0 23 rfl rfl)
theorem dX6_adds_24 : decode cX6_adds 24 = .ok (.return_, 1) := dk_177 (dk_at dksX6_adds_1 0 rfl rfl)
abbrev cX6_cuts : ByteArray := prog_17_method_50_code
def yX6_cuts : MethodName := ⟨RX6, "cuts", "(IZZI)I"⟩
def dkwX6_cuts_6 : List UInt8 := [180, 0, 13, 7, 46, 116, 21, 4, 104, 182, 1, 2, 5, 172]
abbrev dktX6_cuts_6 : List UInt8 := dkwX6_cuts_6 ++ []
def dkwX6_cuts_5 : List UInt8 := [96, 181, 1, 5, 42, 27, 16, 6, 42, 180, 0, 13, 16, 6, 46, 182, 0, 105, 42, 27, 16, 7, 42]
abbrev dktX6_cuts_5 : List UInt8 := dkwX6_cuts_5 ++ dktX6_cuts_6
def dkwX6_cuts_4 : List UInt8 := [42, 27, 8, 21, 4, 182, 0, 255, 4, 172, 42, 27, 16, 8, 4, 182, 1, 2, 42, 42, 180, 1, 5, 4]
abbrev dktX6_cuts_4 : List UInt8 := dkwX6_cuts_4 ++ dktX6_cuts_5
def dkwX6_cuts_3 : List UInt8 := [182, 0, 255, 28, 153, 0, 7, 6, 167, 0, 4, 3, 172, 29, 153, 0, 20, 42, 27, 6, 4, 182, 0, 255]
abbrev dktX6_cuts_3 : List UInt8 := dkwX6_cuts_3 ++ dktX6_cuts_4
def dkwX6_cuts_2 : List UInt8 := [4, 96, 181, 0, 252, 21, 5, 154, 0, 28, 42, 27, 5, 4, 182, 0, 255, 42, 27, 7, 21, 4]
abbrev dktX6_cuts_2 : List UInt8 := dkwX6_cuts_2 ++ dktX6_cuts_3
def dkwX6_cuts_1 : List UInt8 := [180, 0, 13, 8, 46, 162, 0, 7, 4, 167, 0, 4, 3, 54, 5, 28, 153, 0, 13, 42, 42, 180, 0, 252]
abbrev dktX6_cuts_1 : List UInt8 := dkwX6_cuts_1 ++ dktX6_cuts_2
def dkwX6_cuts_0 : List UInt8 := [28, 153, 0, 35, 42, 180, 0, 13, 8, 46, 17, 3, 232, 159, 0, 19, 42, 17, 3, 232, 182, 0, 249, 42]
abbrev dktX6_cuts_0 : List UInt8 := dkwX6_cuts_0 ++ dktX6_cuts_1
theorem dksX6_cuts_0 : cX6_cuts.data.toList.drop 0 = dktX6_cuts_0 := by decide +kernel
theorem dksX6_cuts_1 : cX6_cuts.data.toList.drop 24 = dktX6_cuts_1 := dk_seg dksX6_cuts_0 24 rfl rfl
theorem dksX6_cuts_2 : cX6_cuts.data.toList.drop 48 = dktX6_cuts_2 := dk_seg dksX6_cuts_1 24 rfl rfl
theorem dksX6_cuts_3 : cX6_cuts.data.toList.drop 70 = dktX6_cuts_3 := dk_seg dksX6_cuts_2 22 rfl rfl
theorem dksX6_cuts_4 : cX6_cuts.data.toList.drop 94 = dktX6_cuts_4 := dk_seg dksX6_cuts_3 24 rfl rfl
theorem dksX6_cuts_5 : cX6_cuts.data.toList.drop 118 = dktX6_cuts_5 := dk_seg dksX6_cuts_4 24 rfl rfl
theorem dksX6_cuts_6 : cX6_cuts.data.toList.drop 141 = dktX6_cuts_6 := dk_seg dksX6_cuts_5 23 rfl rfl
theorem dX6_cuts_0 : decode cX6_cuts 0 = .ok (.iload_n 2, 1) := dk_28 (dk_at dksX6_cuts_0 0 rfl rfl)
theorem dX6_cuts_1 : decode cX6_cuts 1 = .ok (.ifCond .eq 35, 3) := dk_153 0 35 (dk_at dksX6_cuts_0 1 rfl rfl)
theorem dX6_cuts_4 : decode cX6_cuts 4 = .ok (.aload_n 0, 1) := dk_42 (dk_at dksX6_cuts_0 4 rfl rfl)
theorem dX6_cuts_5 : decode cX6_cuts 5 = .ok (.getfield 13, 3) := dk_180 0 13 (dk_at dksX6_cuts_0 5 rfl rfl)
theorem dX6_cuts_8 : decode cX6_cuts 8 = .ok (.iconst 5, 1) := dk_8 (dk_at dksX6_cuts_0 8 rfl rfl)
theorem dX6_cuts_9 : decode cX6_cuts 9 = .ok (.iaload, 1) := dk_46 (dk_at dksX6_cuts_0 9 rfl rfl)
theorem dX6_cuts_10 : decode cX6_cuts 10 = .ok (.sipush 1000, 3) := dk_17 3 232 (dk_at dksX6_cuts_0 10 rfl rfl)
theorem dX6_cuts_13 : decode cX6_cuts 13 = .ok (.if_icmp .eq 19, 3) := dk_159 0 19 (dk_at dksX6_cuts_0 13 rfl rfl)
theorem dX6_cuts_16 : decode cX6_cuts 16 = .ok (.aload_n 0, 1) := dk_42 (dk_at dksX6_cuts_0 16 rfl rfl)
theorem dX6_cuts_17 : decode cX6_cuts 17 = .ok (.sipush 1000, 3) := dk_17 3 232 (dk_at dksX6_cuts_0 17 rfl rfl)
theorem dX6_cuts_20 : decode cX6_cuts 20 = .ok (.invokevirtual 249, 3) := dk_182 0 249 (dk_at dksX6_cuts_0 20 rfl rfl)
theorem dX6_cuts_23 : decode cX6_cuts 23 = .ok (.aload_n 0, 1) := dk_42 (dk_at dksX6_cuts_0 23 rfl rfl)
theorem dX6_cuts_24 : decode cX6_cuts 24 = .ok (.getfield 13, 3) := dk_180 0 13 (dk_at dksX6_cuts_1 0 rfl rfl)
theorem dX6_cuts_27 : decode cX6_cuts 27 = .ok (.iconst 5, 1) := dk_8 (dk_at dksX6_cuts_1 3 rfl rfl)
theorem dX6_cuts_28 : decode cX6_cuts 28 = .ok (.iaload, 1) := dk_46 (dk_at dksX6_cuts_1 4 rfl rfl)
theorem dX6_cuts_29 : decode cX6_cuts 29 = .ok (.if_icmp .ge 7, 3) := dk_162 0 7 (dk_at dksX6_cuts_1 5 rfl rfl)
theorem dX6_cuts_32 : decode cX6_cuts 32 = .ok (.iconst 1, 1) := dk_4 (dk_at dksX6_cuts_1 8 rfl rfl)
theorem dX6_cuts_33 : decode cX6_cuts 33 = .ok (.goto 4, 3) := dk_167 0 4 (dk_at dksX6_cuts_1 9 rfl rfl)
theorem dX6_cuts_36 : decode cX6_cuts 36 = .ok (.iconst 0, 1) := dk_3 (dk_at dksX6_cuts_1 12 rfl rfl)
theorem dX6_cuts_37 : decode cX6_cuts 37 = .ok (.istore 5, 2) := dk_54 5 (dk_at dksX6_cuts_1 13 rfl rfl)
theorem dX6_cuts_39 : decode cX6_cuts 39 = .ok (.iload_n 2, 1) := dk_28 (dk_at dksX6_cuts_1 15 rfl rfl)
theorem dX6_cuts_40 : decode cX6_cuts 40 = .ok (.ifCond .eq 13, 3) := dk_153 0 13 (dk_at dksX6_cuts_1 16 rfl rfl)
theorem dX6_cuts_43 : decode cX6_cuts 43 = .ok (.aload_n 0, 1) := dk_42 (dk_at dksX6_cuts_1 19 rfl rfl)
theorem dX6_cuts_44 : decode cX6_cuts 44 = .ok (.aload_n 0, 1) := dk_42 (dk_at dksX6_cuts_1 20 rfl rfl)
theorem dX6_cuts_45 : decode cX6_cuts 45 = .ok (.getfield 252, 3) := dk_180 0 252 (dk_at dksX6_cuts_1 21 rfl rfl)
theorem dX6_cuts_48 : decode cX6_cuts 48 = .ok (.iconst 1, 1) := dk_4 (dk_at dksX6_cuts_2 0 rfl rfl)
theorem dX6_cuts_49 : decode cX6_cuts 49 = .ok (.iadd, 1) := dk_96 (dk_at dksX6_cuts_2 1 rfl rfl)
theorem dX6_cuts_50 : decode cX6_cuts 50 = .ok (.putfield 252, 3) := dk_181 0 252 (dk_at dksX6_cuts_2 2 rfl rfl)
theorem dX6_cuts_53 : decode cX6_cuts 53 = .ok (.iload 5, 2) := dk_21 5 (dk_at dksX6_cuts_2 5 rfl rfl)
theorem dX6_cuts_55 : decode cX6_cuts 55 = .ok (.ifCond .ne 28, 3) := dk_154 0 28 (dk_at dksX6_cuts_2 7 rfl rfl)
theorem dX6_cuts_58 : decode cX6_cuts 58 = .ok (.aload_n 0, 1) := dk_42 (dk_at dksX6_cuts_2 10 rfl rfl)
theorem dX6_cuts_59 : decode cX6_cuts 59 = .ok (.iload_n 1, 1) := dk_27 (dk_at dksX6_cuts_2 11 rfl rfl)
theorem dX6_cuts_60 : decode cX6_cuts 60 = .ok (.iconst 2, 1) := dk_5 (dk_at dksX6_cuts_2 12 rfl rfl)
theorem dX6_cuts_61 : decode cX6_cuts 61 = .ok (.iconst 1, 1) := dk_4 (dk_at dksX6_cuts_2 13 rfl rfl)
theorem dX6_cuts_62 : decode cX6_cuts 62 = .ok (.invokevirtual 255, 3) := dk_182 0 255 (dk_at dksX6_cuts_2 14 rfl rfl)
theorem dX6_cuts_65 : decode cX6_cuts 65 = .ok (.aload_n 0, 1) := dk_42 (dk_at dksX6_cuts_2 17 rfl rfl)
theorem dX6_cuts_66 : decode cX6_cuts 66 = .ok (.iload_n 1, 1) := dk_27 (dk_at dksX6_cuts_2 18 rfl rfl)
theorem dX6_cuts_67 : decode cX6_cuts 67 = .ok (.iconst 4, 1) := dk_7 (dk_at dksX6_cuts_2 19 rfl rfl)
theorem dX6_cuts_68 : decode cX6_cuts 68 = .ok (.iload 4, 2) := dk_21 4 (dk_at dksX6_cuts_2 20 rfl rfl)
theorem dX6_cuts_70 : decode cX6_cuts 70 = .ok (.invokevirtual 255, 3) := dk_182 0 255 (dk_at dksX6_cuts_3 0 rfl rfl)
theorem dX6_cuts_73 : decode cX6_cuts 73 = .ok (.iload_n 2, 1) := dk_28 (dk_at dksX6_cuts_3 3 rfl rfl)
theorem dX6_cuts_74 : decode cX6_cuts 74 = .ok (.ifCond .eq 7, 3) := dk_153 0 7 (dk_at dksX6_cuts_3 4 rfl rfl)
theorem dX6_cuts_77 : decode cX6_cuts 77 = .ok (.iconst 3, 1) := dk_6 (dk_at dksX6_cuts_3 7 rfl rfl)
theorem dX6_cuts_78 : decode cX6_cuts 78 = .ok (.goto 4, 3) := dk_167 0 4 (dk_at dksX6_cuts_3 8 rfl rfl)
theorem dX6_cuts_81 : decode cX6_cuts 81 = .ok (.iconst 0, 1) := dk_3 (dk_at dksX6_cuts_3 11 rfl rfl)
theorem dX6_cuts_82 : decode cX6_cuts 82 = .ok (.ireturn, 1) := dk_172 (dk_at dksX6_cuts_3 12 rfl rfl)
theorem dX6_cuts_83 : decode cX6_cuts 83 = .ok (.iload_n 3, 1) := dk_29 (dk_at dksX6_cuts_3 13 rfl rfl)
theorem dX6_cuts_84 : decode cX6_cuts 84 = .ok (.ifCond .eq 20, 3) := dk_153 0 20 (dk_at dksX6_cuts_3 14 rfl rfl)
theorem dX6_cuts_87 : decode cX6_cuts 87 = .ok (.aload_n 0, 1) := dk_42 (dk_at dksX6_cuts_3 17 rfl rfl)
theorem dX6_cuts_88 : decode cX6_cuts 88 = .ok (.iload_n 1, 1) := dk_27 (dk_at dksX6_cuts_3 18 rfl rfl)
theorem dX6_cuts_89 : decode cX6_cuts 89 = .ok (.iconst 3, 1) := dk_6 (dk_at dksX6_cuts_3 19 rfl rfl)
theorem dX6_cuts_90 : decode cX6_cuts 90 = .ok (.iconst 1, 1) := dk_4 (dk_at dksX6_cuts_3 20 rfl rfl)
theorem dX6_cuts_91 : decode cX6_cuts 91 = .ok (.invokevirtual 255, 3) := dk_182 0 255 (dk_at dksX6_cuts_3 21 rfl rfl)
theorem dX6_cuts_94 : decode cX6_cuts 94 = .ok (.aload_n 0, 1) := dk_42 (dk_at dksX6_cuts_4 0 rfl rfl)
theorem dX6_cuts_95 : decode cX6_cuts 95 = .ok (.iload_n 1, 1) := dk_27 (dk_at dksX6_cuts_4 1 rfl rfl)
theorem dX6_cuts_96 : decode cX6_cuts 96 = .ok (.iconst 5, 1) := dk_8 (dk_at dksX6_cuts_4 2 rfl rfl)
theorem dX6_cuts_97 : decode cX6_cuts 97 = .ok (.iload 4, 2) := dk_21 4 (dk_at dksX6_cuts_4 3 rfl rfl)
theorem dX6_cuts_99 : decode cX6_cuts 99 = .ok (.invokevirtual 255, 3) := dk_182 0 255 (dk_at dksX6_cuts_4 5 rfl rfl)
theorem dX6_cuts_102 : decode cX6_cuts 102 = .ok (.iconst 1, 1) := dk_4 (dk_at dksX6_cuts_4 8 rfl rfl)
theorem dX6_cuts_103 : decode cX6_cuts 103 = .ok (.ireturn, 1) := dk_172 (dk_at dksX6_cuts_4 9 rfl rfl)
theorem dX6_cuts_104 : decode cX6_cuts 104 = .ok (.aload_n 0, 1) := dk_42 (dk_at dksX6_cuts_4 10 rfl rfl)
theorem dX6_cuts_105 : decode cX6_cuts 105 = .ok (.iload_n 1, 1) := dk_27 (dk_at dksX6_cuts_4 11 rfl rfl)
theorem dX6_cuts_106 : decode cX6_cuts 106 = .ok (.bipush 8, 2) := dk_16 8 (dk_at dksX6_cuts_4 12 rfl rfl)
theorem dX6_cuts_108 : decode cX6_cuts 108 = .ok (.iconst 1, 1) := dk_4 (dk_at dksX6_cuts_4 14 rfl rfl)
theorem dX6_cuts_109 : decode cX6_cuts 109 = .ok (.invokevirtual 258, 3) := dk_182 1 2 (dk_at dksX6_cuts_4 15 rfl rfl)
theorem dX6_cuts_112 : decode cX6_cuts 112 = .ok (.aload_n 0, 1) := dk_42 (dk_at dksX6_cuts_4 18 rfl rfl)
theorem dX6_cuts_113 : decode cX6_cuts 113 = .ok (.aload_n 0, 1) := dk_42 (dk_at dksX6_cuts_4 19 rfl rfl)
theorem dX6_cuts_114 : decode cX6_cuts 114 = .ok (.getfield 261, 3) := dk_180 1 5 (dk_at dksX6_cuts_4 20 rfl rfl)
theorem dX6_cuts_117 : decode cX6_cuts 117 = .ok (.iconst 1, 1) := dk_4 (dk_at dksX6_cuts_4 23 rfl rfl)
theorem dX6_cuts_118 : decode cX6_cuts 118 = .ok (.iadd, 1) := dk_96 (dk_at dksX6_cuts_5 0 rfl rfl)
theorem dX6_cuts_119 : decode cX6_cuts 119 = .ok (.putfield 261, 3) := dk_181 1 5 (dk_at dksX6_cuts_5 1 rfl rfl)
theorem dX6_cuts_122 : decode cX6_cuts 122 = .ok (.aload_n 0, 1) := dk_42 (dk_at dksX6_cuts_5 4 rfl rfl)
theorem dX6_cuts_123 : decode cX6_cuts 123 = .ok (.iload_n 1, 1) := dk_27 (dk_at dksX6_cuts_5 5 rfl rfl)
theorem dX6_cuts_124 : decode cX6_cuts 124 = .ok (.bipush 6, 2) := dk_16 6 (dk_at dksX6_cuts_5 6 rfl rfl)
theorem dX6_cuts_126 : decode cX6_cuts 126 = .ok (.aload_n 0, 1) := dk_42 (dk_at dksX6_cuts_5 8 rfl rfl)
theorem dX6_cuts_127 : decode cX6_cuts 127 = .ok (.getfield 13, 3) := dk_180 0 13 (dk_at dksX6_cuts_5 9 rfl rfl)
theorem dX6_cuts_130 : decode cX6_cuts 130 = .ok (.bipush 6, 2) := dk_16 6 (dk_at dksX6_cuts_5 12 rfl rfl)
theorem dX6_cuts_132 : decode cX6_cuts 132 = .ok (.iaload, 1) := dk_46 (dk_at dksX6_cuts_5 14 rfl rfl)
theorem dX6_cuts_133 : decode cX6_cuts 133 = .ok (.invokevirtual 105, 3) := dk_182 0 105 (dk_at dksX6_cuts_5 15 rfl rfl)
theorem dX6_cuts_136 : decode cX6_cuts 136 = .ok (.aload_n 0, 1) := dk_42 (dk_at dksX6_cuts_5 18 rfl rfl)
theorem dX6_cuts_137 : decode cX6_cuts 137 = .ok (.iload_n 1, 1) := dk_27 (dk_at dksX6_cuts_5 19 rfl rfl)
theorem dX6_cuts_138 : decode cX6_cuts 138 = .ok (.bipush 7, 2) := dk_16 7 (dk_at dksX6_cuts_5 20 rfl rfl)
theorem dX6_cuts_140 : decode cX6_cuts 140 = .ok (.aload_n 0, 1) := dk_42 (dk_at dksX6_cuts_5 22 rfl rfl)
theorem dX6_cuts_141 : decode cX6_cuts 141 = .ok (.getfield 13, 3) := dk_180 0 13 (dk_at dksX6_cuts_6 0 rfl rfl)
theorem dX6_cuts_144 : decode cX6_cuts 144 = .ok (.iconst 4, 1) := dk_7 (dk_at dksX6_cuts_6 3 rfl rfl)
theorem dX6_cuts_145 : decode cX6_cuts 145 = .ok (.iaload, 1) := dk_46 (dk_at dksX6_cuts_6 4 rfl rfl)
theorem dX6_cuts_146 : decode cX6_cuts 146 = .ok (.ineg, 1) := dk_116 (dk_at dksX6_cuts_6 5 rfl rfl)
theorem dX6_cuts_147 : decode cX6_cuts 147 = .ok (.iload 4, 2) := dk_21 4 (dk_at dksX6_cuts_6 6 rfl rfl)
theorem dX6_cuts_149 : decode cX6_cuts 149 = .ok (.imul, 1) := dk_104 (dk_at dksX6_cuts_6 8 rfl rfl)
theorem dX6_cuts_150 : decode cX6_cuts 150 = .ok (.invokevirtual 258, 3) := dk_182 1 2 (dk_at dksX6_cuts_6 9 rfl rfl)
theorem dX6_cuts_153 : decode cX6_cuts 153 = .ok (.iconst 2, 1) := dk_5 (dk_at dksX6_cuts_6 12 rfl rfl)
theorem dX6_cuts_154 : decode cX6_cuts 154 = .ok (.ireturn, 1) := dk_172 (dk_at dksX6_cuts_6 13 rfl rfl)
abbrev cX6_draw : ByteArray := prog_17_method_5_code
def yX6_draw : MethodName := ⟨RX6, "draw", "(I)I"⟩
def dkwX6_draw_0 : List UInt8 := [42, 18, 96, 42, 180, 0, 93, 104, 18, 97, 96, 181, 0, 93, 42, 180, 0, 93, 16, 8, 124, 27, 112, 172]
abbrev dktX6_draw_0 : List UInt8 := dkwX6_draw_0 ++ []
theorem dksX6_draw_0 : cX6_draw.data.toList.drop 0 = dktX6_draw_0 := by decide +kernel
theorem dX6_draw_0 : decode cX6_draw 0 = .ok (.aload_n 0, 1) := dk_42 (dk_at dksX6_draw_0 0 rfl rfl)
theorem dX6_draw_1 : decode cX6_draw 1 = .ok (.ldc 96, 2) := dk_18 96 (dk_at dksX6_draw_0 1 rfl rfl)
theorem dX6_draw_3 : decode cX6_draw 3 = .ok (.aload_n 0, 1) := dk_42 (dk_at dksX6_draw_0 3 rfl rfl)
theorem dX6_draw_4 : decode cX6_draw 4 = .ok (.getfield 93, 3) := dk_180 0 93 (dk_at dksX6_draw_0 4 rfl rfl)
theorem dX6_draw_7 : decode cX6_draw 7 = .ok (.imul, 1) := dk_104 (dk_at dksX6_draw_0 7 rfl rfl)
theorem dX6_draw_8 : decode cX6_draw 8 = .ok (.ldc 97, 2) := dk_18 97 (dk_at dksX6_draw_0 8 rfl rfl)
theorem dX6_draw_10 : decode cX6_draw 10 = .ok (.iadd, 1) := dk_96 (dk_at dksX6_draw_0 10 rfl rfl)
theorem dX6_draw_11 : decode cX6_draw 11 = .ok (.putfield 93, 3) := dk_181 0 93 (dk_at dksX6_draw_0 11 rfl rfl)
theorem dX6_draw_14 : decode cX6_draw 14 = .ok (.aload_n 0, 1) := dk_42 (dk_at dksX6_draw_0 14 rfl rfl)
theorem dX6_draw_15 : decode cX6_draw 15 = .ok (.getfield 93, 3) := dk_180 0 93 (dk_at dksX6_draw_0 15 rfl rfl)
theorem dX6_draw_18 : decode cX6_draw 18 = .ok (.bipush 8, 2) := dk_16 8 (dk_at dksX6_draw_0 18 rfl rfl)
theorem dX6_draw_20 : decode cX6_draw 20 = .ok (.iushr, 1) := dk_124 (dk_at dksX6_draw_0 20 rfl rfl)
theorem dX6_draw_21 : decode cX6_draw 21 = .ok (.iload_n 1, 1) := dk_27 (dk_at dksX6_draw_0 21 rfl rfl)
theorem dX6_draw_22 : decode cX6_draw 22 = .ok (.irem, 1) := dk_112 (dk_at dksX6_draw_0 22 rfl rfl)
theorem dX6_draw_23 : decode cX6_draw 23 = .ok (.ireturn, 1) := dk_172 (dk_at dksX6_draw_0 23 rfl rfl)
abbrev cX6_grows : ByteArray := prog_17_method_11_code
def yX6_grows : MethodName := ⟨RX6, "grows", "(III)V"⟩
def dkwX6_grows_1 : List UInt8 := [167, 0, 5, 21, 4, 182, 0, 105, 177]
abbrev dktX6_grows_1 : List UInt8 := dkwX6_grows_1 ++ []
def dkwX6_grows_0 : List UInt8 := [42, 27, 28, 182, 0, 101, 29, 96, 54, 4, 42, 27, 28, 21, 4, 17, 39, 15, 164, 0, 9, 17, 39, 15]
abbrev dktX6_grows_0 : List UInt8 := dkwX6_grows_0 ++ dktX6_grows_1
theorem dksX6_grows_0 : cX6_grows.data.toList.drop 0 = dktX6_grows_0 := by decide +kernel
theorem dksX6_grows_1 : cX6_grows.data.toList.drop 24 = dktX6_grows_1 := dk_seg dksX6_grows_0 24 rfl rfl
theorem dX6_grows_0 : decode cX6_grows 0 = .ok (.aload_n 0, 1) := dk_42 (dk_at dksX6_grows_0 0 rfl rfl)
theorem dX6_grows_1 : decode cX6_grows 1 = .ok (.iload_n 1, 1) := dk_27 (dk_at dksX6_grows_0 1 rfl rfl)
theorem dX6_grows_2 : decode cX6_grows 2 = .ok (.iload_n 2, 1) := dk_28 (dk_at dksX6_grows_0 2 rfl rfl)
theorem dX6_grows_3 : decode cX6_grows 3 = .ok (.invokevirtual 101, 3) := dk_182 0 101 (dk_at dksX6_grows_0 3 rfl rfl)
theorem dX6_grows_6 : decode cX6_grows 6 = .ok (.iload_n 3, 1) := dk_29 (dk_at dksX6_grows_0 6 rfl rfl)
theorem dX6_grows_7 : decode cX6_grows 7 = .ok (.iadd, 1) := dk_96 (dk_at dksX6_grows_0 7 rfl rfl)
theorem dX6_grows_8 : decode cX6_grows 8 = .ok (.istore 4, 2) := dk_54 4 (dk_at dksX6_grows_0 8 rfl rfl)
theorem dX6_grows_10 : decode cX6_grows 10 = .ok (.aload_n 0, 1) := dk_42 (dk_at dksX6_grows_0 10 rfl rfl)
theorem dX6_grows_11 : decode cX6_grows 11 = .ok (.iload_n 1, 1) := dk_27 (dk_at dksX6_grows_0 11 rfl rfl)
theorem dX6_grows_12 : decode cX6_grows 12 = .ok (.iload_n 2, 1) := dk_28 (dk_at dksX6_grows_0 12 rfl rfl)
theorem dX6_grows_13 : decode cX6_grows 13 = .ok (.iload 4, 2) := dk_21 4 (dk_at dksX6_grows_0 13 rfl rfl)
theorem dX6_grows_15 : decode cX6_grows 15 = .ok (.sipush 9999, 3) := dk_17 39 15 (dk_at dksX6_grows_0 15 rfl rfl)
theorem dX6_grows_18 : decode cX6_grows 18 = .ok (.if_icmp .le 9, 3) := dk_164 0 9 (dk_at dksX6_grows_0 18 rfl rfl)
theorem dX6_grows_21 : decode cX6_grows 21 = .ok (.sipush 9999, 3) := dk_17 39 15 (dk_at dksX6_grows_0 21 rfl rfl)
theorem dX6_grows_24 : decode cX6_grows 24 = .ok (.goto 5, 3) := dk_167 0 5 (dk_at dksX6_grows_1 0 rfl rfl)
theorem dX6_grows_27 : decode cX6_grows 27 = .ok (.iload 4, 2) := dk_21 4 (dk_at dksX6_grows_1 3 rfl rfl)
theorem dX6_grows_29 : decode cX6_grows 29 = .ok (.invokevirtual 105, 3) := dk_182 0 105 (dk_at dksX6_grows_1 5 rfl rfl)
theorem dX6_grows_32 : decode cX6_grows 32 = .ok (.return_, 1) := dk_177 (dk_at dksX6_grows_1 8 rfl rfl)
abbrev cX6_book : ByteArray := prog_17_method_53_code
def yX6_book : MethodName := ⟨RX6, "book", "(II)I"⟩
def dkwX6_book_1 : List UInt8 := [16, 7, 182, 0, 109, 153, 0, 17, 42, 180, 0, 16, 16, 8, 27, 104, 28, 96, 46, 167, 0, 4, 2, 172]
abbrev dktX6_book_1 : List UInt8 := dkwX6_book_1 ++ []
def dkwX6_book_0 : List UInt8 := [42, 3, 181, 0, 90, 42, 27, 3, 42, 180, 1, 8, 4, 100, 182, 0, 109, 153, 0, 28, 42, 28, 3]
abbrev dktX6_book_0 : List UInt8 := dkwX6_book_0 ++ dktX6_book_1
theorem dksX6_book_0 : cX6_book.data.toList.drop 0 = dktX6_book_0 := by decide +kernel
theorem dksX6_book_1 : cX6_book.data.toList.drop 23 = dktX6_book_1 := dk_seg dksX6_book_0 23 rfl rfl
theorem dX6_book_0 : decode cX6_book 0 = .ok (.aload_n 0, 1) := dk_42 (dk_at dksX6_book_0 0 rfl rfl)
theorem dX6_book_1 : decode cX6_book 1 = .ok (.iconst 0, 1) := dk_3 (dk_at dksX6_book_0 1 rfl rfl)
theorem dX6_book_2 : decode cX6_book 2 = .ok (.putfield 90, 3) := dk_181 0 90 (dk_at dksX6_book_0 2 rfl rfl)
theorem dX6_book_5 : decode cX6_book 5 = .ok (.aload_n 0, 1) := dk_42 (dk_at dksX6_book_0 5 rfl rfl)
theorem dX6_book_6 : decode cX6_book 6 = .ok (.iload_n 1, 1) := dk_27 (dk_at dksX6_book_0 6 rfl rfl)
theorem dX6_book_7 : decode cX6_book 7 = .ok (.iconst 0, 1) := dk_3 (dk_at dksX6_book_0 7 rfl rfl)
theorem dX6_book_8 : decode cX6_book 8 = .ok (.aload_n 0, 1) := dk_42 (dk_at dksX6_book_0 8 rfl rfl)
theorem dX6_book_9 : decode cX6_book 9 = .ok (.getfield 264, 3) := dk_180 1 8 (dk_at dksX6_book_0 9 rfl rfl)
theorem dX6_book_12 : decode cX6_book 12 = .ok (.iconst 1, 1) := dk_4 (dk_at dksX6_book_0 12 rfl rfl)
theorem dX6_book_13 : decode cX6_book 13 = .ok (.isub, 1) := dk_100 (dk_at dksX6_book_0 13 rfl rfl)
theorem dX6_book_14 : decode cX6_book 14 = .ok (.invokevirtual 109, 3) := dk_182 0 109 (dk_at dksX6_book_0 14 rfl rfl)
theorem dX6_book_17 : decode cX6_book 17 = .ok (.ifCond .eq 28, 3) := dk_153 0 28 (dk_at dksX6_book_0 17 rfl rfl)
theorem dX6_book_20 : decode cX6_book 20 = .ok (.aload_n 0, 1) := dk_42 (dk_at dksX6_book_0 20 rfl rfl)
theorem dX6_book_21 : decode cX6_book 21 = .ok (.iload_n 2, 1) := dk_28 (dk_at dksX6_book_0 21 rfl rfl)
theorem dX6_book_22 : decode cX6_book 22 = .ok (.iconst 0, 1) := dk_3 (dk_at dksX6_book_0 22 rfl rfl)
theorem dX6_book_23 : decode cX6_book 23 = .ok (.bipush 7, 2) := dk_16 7 (dk_at dksX6_book_1 0 rfl rfl)
theorem dX6_book_25 : decode cX6_book 25 = .ok (.invokevirtual 109, 3) := dk_182 0 109 (dk_at dksX6_book_1 2 rfl rfl)
theorem dX6_book_28 : decode cX6_book 28 = .ok (.ifCond .eq 17, 3) := dk_153 0 17 (dk_at dksX6_book_1 5 rfl rfl)
theorem dX6_book_31 : decode cX6_book 31 = .ok (.aload_n 0, 1) := dk_42 (dk_at dksX6_book_1 8 rfl rfl)
theorem dX6_book_32 : decode cX6_book 32 = .ok (.getfield 16, 3) := dk_180 0 16 (dk_at dksX6_book_1 9 rfl rfl)
theorem dX6_book_35 : decode cX6_book 35 = .ok (.bipush 8, 2) := dk_16 8 (dk_at dksX6_book_1 12 rfl rfl)
theorem dX6_book_37 : decode cX6_book 37 = .ok (.iload_n 1, 1) := dk_27 (dk_at dksX6_book_1 14 rfl rfl)
theorem dX6_book_38 : decode cX6_book 38 = .ok (.imul, 1) := dk_104 (dk_at dksX6_book_1 15 rfl rfl)
theorem dX6_book_39 : decode cX6_book 39 = .ok (.iload_n 2, 1) := dk_28 (dk_at dksX6_book_1 16 rfl rfl)
theorem dX6_book_40 : decode cX6_book 40 = .ok (.iadd, 1) := dk_96 (dk_at dksX6_book_1 17 rfl rfl)
theorem dX6_book_41 : decode cX6_book 41 = .ok (.iaload, 1) := dk_46 (dk_at dksX6_book_1 18 rfl rfl)
theorem dX6_book_42 : decode cX6_book 42 = .ok (.goto 4, 3) := dk_167 0 4 (dk_at dksX6_book_1 19 rfl rfl)
theorem dX6_book_45 : decode cX6_book 45 = .ok (.iconst (-1), 1) := dk_2 (dk_at dksX6_book_1 22 rfl rfl)
theorem dX6_book_46 : decode cX6_book 46 = .ok (.ireturn, 1) := dk_172 (dk_at dksX6_book_1 23 rfl rfl)
abbrev cX6_years : ByteArray := prog_17_method_56_code
def yX6_years : MethodName := ⟨RX6, "years", "(I)I"⟩
def dkwX6_years_2 : List UInt8 := [132, 3, 1, 167, 255, 244, 42, 180, 1, 8, 28, 100, 172]
abbrev dktX6_years_2 : List UInt8 := dkwX6_years_2 ++ []
def dkwX6_years_1 : List UInt8 := [17, 3, 231, 164, 0, 5, 2, 172, 42, 180, 1, 8, 61, 3, 62, 29, 27, 162, 0, 13, 42, 182, 1, 28]
abbrev dktX6_years_1 : List UInt8 := dkwX6_years_1 ++ dktX6_years_2
def dkwX6_years_0 : List UInt8 := [42, 3, 181, 0, 90, 42, 27, 4, 16, 60, 182, 0, 109, 153, 0, 15, 42, 180, 0, 222, 27, 96]
abbrev dktX6_years_0 : List UInt8 := dkwX6_years_0 ++ dktX6_years_1
theorem dksX6_years_0 : cX6_years.data.toList.drop 0 = dktX6_years_0 := by decide +kernel
theorem dksX6_years_1 : cX6_years.data.toList.drop 22 = dktX6_years_1 := dk_seg dksX6_years_0 22 rfl rfl
theorem dksX6_years_2 : cX6_years.data.toList.drop 46 = dktX6_years_2 := dk_seg dksX6_years_1 24 rfl rfl
theorem dX6_years_0 : decode cX6_years 0 = .ok (.aload_n 0, 1) := dk_42 (dk_at dksX6_years_0 0 rfl rfl)
theorem dX6_years_1 : decode cX6_years 1 = .ok (.iconst 0, 1) := dk_3 (dk_at dksX6_years_0 1 rfl rfl)
theorem dX6_years_2 : decode cX6_years 2 = .ok (.putfield 90, 3) := dk_181 0 90 (dk_at dksX6_years_0 2 rfl rfl)
theorem dX6_years_5 : decode cX6_years 5 = .ok (.aload_n 0, 1) := dk_42 (dk_at dksX6_years_0 5 rfl rfl)
theorem dX6_years_6 : decode cX6_years 6 = .ok (.iload_n 1, 1) := dk_27 (dk_at dksX6_years_0 6 rfl rfl)
theorem dX6_years_7 : decode cX6_years 7 = .ok (.iconst 1, 1) := dk_4 (dk_at dksX6_years_0 7 rfl rfl)
theorem dX6_years_8 : decode cX6_years 8 = .ok (.bipush 60, 2) := dk_16 60 (dk_at dksX6_years_0 8 rfl rfl)
theorem dX6_years_10 : decode cX6_years 10 = .ok (.invokevirtual 109, 3) := dk_182 0 109 (dk_at dksX6_years_0 10 rfl rfl)
theorem dX6_years_13 : decode cX6_years 13 = .ok (.ifCond .eq 15, 3) := dk_153 0 15 (dk_at dksX6_years_0 13 rfl rfl)
theorem dX6_years_16 : decode cX6_years 16 = .ok (.aload_n 0, 1) := dk_42 (dk_at dksX6_years_0 16 rfl rfl)
theorem dX6_years_17 : decode cX6_years 17 = .ok (.getfield 222, 3) := dk_180 0 222 (dk_at dksX6_years_0 17 rfl rfl)
theorem dX6_years_20 : decode cX6_years 20 = .ok (.iload_n 1, 1) := dk_27 (dk_at dksX6_years_0 20 rfl rfl)
theorem dX6_years_21 : decode cX6_years 21 = .ok (.iadd, 1) := dk_96 (dk_at dksX6_years_0 21 rfl rfl)
theorem dX6_years_22 : decode cX6_years 22 = .ok (.sipush 999, 3) := dk_17 3 231 (dk_at dksX6_years_1 0 rfl rfl)
theorem dX6_years_25 : decode cX6_years 25 = .ok (.if_icmp .le 5, 3) := dk_164 0 5 (dk_at dksX6_years_1 3 rfl rfl)
theorem dX6_years_28 : decode cX6_years 28 = .ok (.iconst (-1), 1) := dk_2 (dk_at dksX6_years_1 6 rfl rfl)
theorem dX6_years_29 : decode cX6_years 29 = .ok (.ireturn, 1) := dk_172 (dk_at dksX6_years_1 7 rfl rfl)
theorem dX6_years_30 : decode cX6_years 30 = .ok (.aload_n 0, 1) := dk_42 (dk_at dksX6_years_1 8 rfl rfl)
theorem dX6_years_31 : decode cX6_years 31 = .ok (.getfield 264, 3) := dk_180 1 8 (dk_at dksX6_years_1 9 rfl rfl)
theorem dX6_years_34 : decode cX6_years 34 = .ok (.istore_n 2, 1) := dk_61 (dk_at dksX6_years_1 12 rfl rfl)
theorem dX6_years_35 : decode cX6_years 35 = .ok (.iconst 0, 1) := dk_3 (dk_at dksX6_years_1 13 rfl rfl)
theorem dX6_years_36 : decode cX6_years 36 = .ok (.istore_n 3, 1) := dk_62 (dk_at dksX6_years_1 14 rfl rfl)
theorem dX6_years_37 : decode cX6_years 37 = .ok (.iload_n 3, 1) := dk_29 (dk_at dksX6_years_1 15 rfl rfl)
theorem dX6_years_38 : decode cX6_years 38 = .ok (.iload_n 1, 1) := dk_27 (dk_at dksX6_years_1 16 rfl rfl)
theorem dX6_years_39 : decode cX6_years 39 = .ok (.if_icmp .ge 13, 3) := dk_162 0 13 (dk_at dksX6_years_1 17 rfl rfl)
theorem dX6_years_42 : decode cX6_years 42 = .ok (.aload_n 0, 1) := dk_42 (dk_at dksX6_years_1 20 rfl rfl)
theorem dX6_years_43 : decode cX6_years 43 = .ok (.invokevirtual 284, 3) := dk_182 1 28 (dk_at dksX6_years_1 21 rfl rfl)
theorem dX6_years_46 : decode cX6_years 46 = .ok (.iinc 3 1, 3) := dk_132 3 1 (dk_at dksX6_years_2 0 rfl rfl)
theorem dX6_years_49 : decode cX6_years 49 = .ok (.goto (-12), 3) := dk_167 255 244 (dk_at dksX6_years_2 3 rfl rfl)
theorem dX6_years_52 : decode cX6_years 52 = .ok (.aload_n 0, 1) := dk_42 (dk_at dksX6_years_2 6 rfl rfl)
theorem dX6_years_53 : decode cX6_years 53 = .ok (.getfield 264, 3) := dk_180 1 8 (dk_at dksX6_years_2 7 rfl rfl)
theorem dX6_years_56 : decode cX6_years 56 = .ok (.iload_n 2, 1) := dk_28 (dk_at dksX6_years_2 10 rfl rfl)
theorem dX6_years_57 : decode cX6_years 57 = .ok (.isub, 1) := dk_100 (dk_at dksX6_years_2 11 rfl rfl)
theorem dX6_years_58 : decode cX6_years 58 = .ok (.ireturn, 1) := dk_172 (dk_at dksX6_years_2 12 rfl rfl)
abbrev cX6_goesBy : ByteArray := prog_17_method_55_code
def yX6_goesBy : MethodName := ⟨RX6, "goesBy", "()V"⟩
def dkwX6_goesBy_8 : List UInt8 := [181, 0, 222, 177]
abbrev dktX6_goesBy_8 : List UInt8 := dkwX6_goesBy_8 ++ []
def dkwX6_goesBy_7 : List UInt8 := [3, 182, 0, 105, 132, 3, 1, 167, 255, 241, 132, 2, 1, 167, 255, 163, 42, 42, 180, 0, 222, 4, 96]
abbrev dktX6_goesBy_7 : List UInt8 := dkwX6_goesBy_7 ++ dktX6_goesBy_8
def dkwX6_goesBy_6 : List UInt8 := [4, 182, 0, 101, 42, 180, 0, 13, 16, 7, 46, 160, 0, 23, 5, 62, 29, 8, 163, 0, 16, 42, 28, 29]
abbrev dktX6_goesBy_6 : List UInt8 := dkwX6_goesBy_6 ++ dktX6_goesBy_7
def dkwX6_goesBy_5 : List UInt8 := [16, 99, 162, 0, 10, 42, 28, 4, 4, 182, 1, 2, 42, 180, 0, 13, 16, 7, 46, 158, 0, 39, 42, 28]
abbrev dktX6_goesBy_5 : List UInt8 := dkwX6_goesBy_5 ++ dktX6_goesBy_6
def dkwX6_goesBy_4 : List UInt8 := [28, 16, 6, 182, 0, 101, 158, 0, 11, 42, 28, 16, 6, 2, 182, 1, 2, 42, 28, 4, 182, 0, 101]
abbrev dktX6_goesBy_4 : List UInt8 := dkwX6_goesBy_4 ++ dktX6_goesBy_5
def dkwX6_goesBy_3 : List UInt8 := [182, 1, 25, 182, 1, 19, 87, 132, 2, 1, 167, 255, 184, 3, 61, 28, 42, 180, 0, 98, 162, 0, 91, 42]
abbrev dktX6_goesBy_3 : List UInt8 := dkwX6_goesBy_3 ++ dktX6_goesBy_4
def dkwX6_goesBy_2 : List UInt8 := [182, 0, 249, 54, 4, 21, 4, 29, 161, 0, 9, 21, 4, 4, 96, 54, 4, 42, 29, 21, 4, 42, 27]
abbrev dktX6_goesBy_2 : List UInt8 := dkwX6_goesBy_2 ++ dktX6_goesBy_3
def dkwX6_goesBy_1 : List UInt8 := [164, 0, 59, 27, 158, 0, 55, 42, 42, 180, 0, 98, 182, 0, 249, 62, 42, 42, 180, 0, 98, 4, 100]
abbrev dktX6_goesBy_1 : List UInt8 := dkwX6_goesBy_1 ++ dktX6_goesBy_2
def dkwX6_goesBy_0 : List UInt8 := [42, 182, 1, 22, 60, 3, 61, 28, 42, 180, 0, 13, 16, 8, 46, 162, 0, 67, 42, 180, 0, 98, 4]
abbrev dktX6_goesBy_0 : List UInt8 := dkwX6_goesBy_0 ++ dktX6_goesBy_1
theorem dksX6_goesBy_0 : cX6_goesBy.data.toList.drop 0 = dktX6_goesBy_0 := by decide +kernel
theorem dksX6_goesBy_1 : cX6_goesBy.data.toList.drop 23 = dktX6_goesBy_1 := dk_seg dksX6_goesBy_0 23 rfl rfl
theorem dksX6_goesBy_2 : cX6_goesBy.data.toList.drop 46 = dktX6_goesBy_2 := dk_seg dksX6_goesBy_1 23 rfl rfl
theorem dksX6_goesBy_3 : cX6_goesBy.data.toList.drop 69 = dktX6_goesBy_3 := dk_seg dksX6_goesBy_2 23 rfl rfl
theorem dksX6_goesBy_4 : cX6_goesBy.data.toList.drop 93 = dktX6_goesBy_4 := dk_seg dksX6_goesBy_3 24 rfl rfl
theorem dksX6_goesBy_5 : cX6_goesBy.data.toList.drop 116 = dktX6_goesBy_5 := dk_seg dksX6_goesBy_4 23 rfl rfl
theorem dksX6_goesBy_6 : cX6_goesBy.data.toList.drop 140 = dktX6_goesBy_6 := dk_seg dksX6_goesBy_5 24 rfl rfl
theorem dksX6_goesBy_7 : cX6_goesBy.data.toList.drop 164 = dktX6_goesBy_7 := dk_seg dksX6_goesBy_6 24 rfl rfl
theorem dksX6_goesBy_8 : cX6_goesBy.data.toList.drop 187 = dktX6_goesBy_8 := dk_seg dksX6_goesBy_7 23 rfl rfl
theorem dX6_goesBy_0 : decode cX6_goesBy 0 = .ok (.aload_n 0, 1) := dk_42 (dk_at dksX6_goesBy_0 0 rfl rfl)
theorem dX6_goesBy_1 : decode cX6_goesBy 1 = .ok (.invokevirtual 278, 3) := dk_182 1 22 (dk_at dksX6_goesBy_0 1 rfl rfl)
theorem dX6_goesBy_4 : decode cX6_goesBy 4 = .ok (.istore_n 1, 1) := dk_60 (dk_at dksX6_goesBy_0 4 rfl rfl)
theorem dX6_goesBy_5 : decode cX6_goesBy 5 = .ok (.iconst 0, 1) := dk_3 (dk_at dksX6_goesBy_0 5 rfl rfl)
theorem dX6_goesBy_6 : decode cX6_goesBy 6 = .ok (.istore_n 2, 1) := dk_61 (dk_at dksX6_goesBy_0 6 rfl rfl)
theorem dX6_goesBy_7 : decode cX6_goesBy 7 = .ok (.iload_n 2, 1) := dk_28 (dk_at dksX6_goesBy_0 7 rfl rfl)
theorem dX6_goesBy_8 : decode cX6_goesBy 8 = .ok (.aload_n 0, 1) := dk_42 (dk_at dksX6_goesBy_0 8 rfl rfl)
theorem dX6_goesBy_9 : decode cX6_goesBy 9 = .ok (.getfield 13, 3) := dk_180 0 13 (dk_at dksX6_goesBy_0 9 rfl rfl)
theorem dX6_goesBy_12 : decode cX6_goesBy 12 = .ok (.bipush 8, 2) := dk_16 8 (dk_at dksX6_goesBy_0 12 rfl rfl)
theorem dX6_goesBy_14 : decode cX6_goesBy 14 = .ok (.iaload, 1) := dk_46 (dk_at dksX6_goesBy_0 14 rfl rfl)
theorem dX6_goesBy_15 : decode cX6_goesBy 15 = .ok (.if_icmp .ge 67, 3) := dk_162 0 67 (dk_at dksX6_goesBy_0 15 rfl rfl)
theorem dX6_goesBy_18 : decode cX6_goesBy 18 = .ok (.aload_n 0, 1) := dk_42 (dk_at dksX6_goesBy_0 18 rfl rfl)
theorem dX6_goesBy_19 : decode cX6_goesBy 19 = .ok (.getfield 98, 3) := dk_180 0 98 (dk_at dksX6_goesBy_0 19 rfl rfl)
theorem dX6_goesBy_22 : decode cX6_goesBy 22 = .ok (.iconst 1, 1) := dk_4 (dk_at dksX6_goesBy_0 22 rfl rfl)
theorem dX6_goesBy_23 : decode cX6_goesBy 23 = .ok (.if_icmp .le 59, 3) := dk_164 0 59 (dk_at dksX6_goesBy_1 0 rfl rfl)
theorem dX6_goesBy_26 : decode cX6_goesBy 26 = .ok (.iload_n 1, 1) := dk_27 (dk_at dksX6_goesBy_1 3 rfl rfl)
theorem dX6_goesBy_27 : decode cX6_goesBy 27 = .ok (.ifCond .le 55, 3) := dk_158 0 55 (dk_at dksX6_goesBy_1 4 rfl rfl)
theorem dX6_goesBy_30 : decode cX6_goesBy 30 = .ok (.aload_n 0, 1) := dk_42 (dk_at dksX6_goesBy_1 7 rfl rfl)
theorem dX6_goesBy_31 : decode cX6_goesBy 31 = .ok (.aload_n 0, 1) := dk_42 (dk_at dksX6_goesBy_1 8 rfl rfl)
theorem dX6_goesBy_32 : decode cX6_goesBy 32 = .ok (.getfield 98, 3) := dk_180 0 98 (dk_at dksX6_goesBy_1 9 rfl rfl)
theorem dX6_goesBy_35 : decode cX6_goesBy 35 = .ok (.invokevirtual 249, 3) := dk_182 0 249 (dk_at dksX6_goesBy_1 12 rfl rfl)
theorem dX6_goesBy_38 : decode cX6_goesBy 38 = .ok (.istore_n 3, 1) := dk_62 (dk_at dksX6_goesBy_1 15 rfl rfl)
theorem dX6_goesBy_39 : decode cX6_goesBy 39 = .ok (.aload_n 0, 1) := dk_42 (dk_at dksX6_goesBy_1 16 rfl rfl)
theorem dX6_goesBy_40 : decode cX6_goesBy 40 = .ok (.aload_n 0, 1) := dk_42 (dk_at dksX6_goesBy_1 17 rfl rfl)
theorem dX6_goesBy_41 : decode cX6_goesBy 41 = .ok (.getfield 98, 3) := dk_180 0 98 (dk_at dksX6_goesBy_1 18 rfl rfl)
theorem dX6_goesBy_44 : decode cX6_goesBy 44 = .ok (.iconst 1, 1) := dk_4 (dk_at dksX6_goesBy_1 21 rfl rfl)
theorem dX6_goesBy_45 : decode cX6_goesBy 45 = .ok (.isub, 1) := dk_100 (dk_at dksX6_goesBy_1 22 rfl rfl)
theorem dX6_goesBy_46 : decode cX6_goesBy 46 = .ok (.invokevirtual 249, 3) := dk_182 0 249 (dk_at dksX6_goesBy_2 0 rfl rfl)
theorem dX6_goesBy_49 : decode cX6_goesBy 49 = .ok (.istore 4, 2) := dk_54 4 (dk_at dksX6_goesBy_2 3 rfl rfl)
theorem dX6_goesBy_51 : decode cX6_goesBy 51 = .ok (.iload 4, 2) := dk_21 4 (dk_at dksX6_goesBy_2 5 rfl rfl)
theorem dX6_goesBy_53 : decode cX6_goesBy 53 = .ok (.iload_n 3, 1) := dk_29 (dk_at dksX6_goesBy_2 7 rfl rfl)
theorem dX6_goesBy_54 : decode cX6_goesBy 54 = .ok (.if_icmp .lt 9, 3) := dk_161 0 9 (dk_at dksX6_goesBy_2 8 rfl rfl)
theorem dX6_goesBy_57 : decode cX6_goesBy 57 = .ok (.iload 4, 2) := dk_21 4 (dk_at dksX6_goesBy_2 11 rfl rfl)
theorem dX6_goesBy_59 : decode cX6_goesBy 59 = .ok (.iconst 1, 1) := dk_4 (dk_at dksX6_goesBy_2 13 rfl rfl)
theorem dX6_goesBy_60 : decode cX6_goesBy 60 = .ok (.iadd, 1) := dk_96 (dk_at dksX6_goesBy_2 14 rfl rfl)
theorem dX6_goesBy_61 : decode cX6_goesBy 61 = .ok (.istore 4, 2) := dk_54 4 (dk_at dksX6_goesBy_2 15 rfl rfl)
theorem dX6_goesBy_63 : decode cX6_goesBy 63 = .ok (.aload_n 0, 1) := dk_42 (dk_at dksX6_goesBy_2 17 rfl rfl)
theorem dX6_goesBy_64 : decode cX6_goesBy 64 = .ok (.iload_n 3, 1) := dk_29 (dk_at dksX6_goesBy_2 18 rfl rfl)
theorem dX6_goesBy_65 : decode cX6_goesBy 65 = .ok (.iload 4, 2) := dk_21 4 (dk_at dksX6_goesBy_2 19 rfl rfl)
theorem dX6_goesBy_67 : decode cX6_goesBy 67 = .ok (.aload_n 0, 1) := dk_42 (dk_at dksX6_goesBy_2 21 rfl rfl)
theorem dX6_goesBy_68 : decode cX6_goesBy 68 = .ok (.iload_n 1, 1) := dk_27 (dk_at dksX6_goesBy_2 22 rfl rfl)
theorem dX6_goesBy_69 : decode cX6_goesBy 69 = .ok (.invokevirtual 281, 3) := dk_182 1 25 (dk_at dksX6_goesBy_3 0 rfl rfl)
theorem dX6_goesBy_72 : decode cX6_goesBy 72 = .ok (.invokevirtual 275, 3) := dk_182 1 19 (dk_at dksX6_goesBy_3 3 rfl rfl)
theorem dX6_goesBy_75 : decode cX6_goesBy 75 = .ok (.pop, 1) := dk_87 (dk_at dksX6_goesBy_3 6 rfl rfl)
theorem dX6_goesBy_76 : decode cX6_goesBy 76 = .ok (.iinc 2 1, 3) := dk_132 2 1 (dk_at dksX6_goesBy_3 7 rfl rfl)
theorem dX6_goesBy_79 : decode cX6_goesBy 79 = .ok (.goto (-72), 3) := dk_167 255 184 (dk_at dksX6_goesBy_3 10 rfl rfl)
theorem dX6_goesBy_82 : decode cX6_goesBy 82 = .ok (.iconst 0, 1) := dk_3 (dk_at dksX6_goesBy_3 13 rfl rfl)
theorem dX6_goesBy_83 : decode cX6_goesBy 83 = .ok (.istore_n 2, 1) := dk_61 (dk_at dksX6_goesBy_3 14 rfl rfl)
theorem dX6_goesBy_84 : decode cX6_goesBy 84 = .ok (.iload_n 2, 1) := dk_28 (dk_at dksX6_goesBy_3 15 rfl rfl)
theorem dX6_goesBy_85 : decode cX6_goesBy 85 = .ok (.aload_n 0, 1) := dk_42 (dk_at dksX6_goesBy_3 16 rfl rfl)
theorem dX6_goesBy_86 : decode cX6_goesBy 86 = .ok (.getfield 98, 3) := dk_180 0 98 (dk_at dksX6_goesBy_3 17 rfl rfl)
theorem dX6_goesBy_89 : decode cX6_goesBy 89 = .ok (.if_icmp .ge 91, 3) := dk_162 0 91 (dk_at dksX6_goesBy_3 20 rfl rfl)
theorem dX6_goesBy_92 : decode cX6_goesBy 92 = .ok (.aload_n 0, 1) := dk_42 (dk_at dksX6_goesBy_3 23 rfl rfl)
theorem dX6_goesBy_93 : decode cX6_goesBy 93 = .ok (.iload_n 2, 1) := dk_28 (dk_at dksX6_goesBy_4 0 rfl rfl)
theorem dX6_goesBy_94 : decode cX6_goesBy 94 = .ok (.bipush 6, 2) := dk_16 6 (dk_at dksX6_goesBy_4 1 rfl rfl)
theorem dX6_goesBy_96 : decode cX6_goesBy 96 = .ok (.invokevirtual 101, 3) := dk_182 0 101 (dk_at dksX6_goesBy_4 3 rfl rfl)
theorem dX6_goesBy_99 : decode cX6_goesBy 99 = .ok (.ifCond .le 11, 3) := dk_158 0 11 (dk_at dksX6_goesBy_4 6 rfl rfl)
theorem dX6_goesBy_102 : decode cX6_goesBy 102 = .ok (.aload_n 0, 1) := dk_42 (dk_at dksX6_goesBy_4 9 rfl rfl)
theorem dX6_goesBy_103 : decode cX6_goesBy 103 = .ok (.iload_n 2, 1) := dk_28 (dk_at dksX6_goesBy_4 10 rfl rfl)
theorem dX6_goesBy_104 : decode cX6_goesBy 104 = .ok (.bipush 6, 2) := dk_16 6 (dk_at dksX6_goesBy_4 11 rfl rfl)
theorem dX6_goesBy_106 : decode cX6_goesBy 106 = .ok (.iconst (-1), 1) := dk_2 (dk_at dksX6_goesBy_4 13 rfl rfl)
theorem dX6_goesBy_107 : decode cX6_goesBy 107 = .ok (.invokevirtual 258, 3) := dk_182 1 2 (dk_at dksX6_goesBy_4 14 rfl rfl)
theorem dX6_goesBy_110 : decode cX6_goesBy 110 = .ok (.aload_n 0, 1) := dk_42 (dk_at dksX6_goesBy_4 17 rfl rfl)
theorem dX6_goesBy_111 : decode cX6_goesBy 111 = .ok (.iload_n 2, 1) := dk_28 (dk_at dksX6_goesBy_4 18 rfl rfl)
theorem dX6_goesBy_112 : decode cX6_goesBy 112 = .ok (.iconst 1, 1) := dk_4 (dk_at dksX6_goesBy_4 19 rfl rfl)
theorem dX6_goesBy_113 : decode cX6_goesBy 113 = .ok (.invokevirtual 101, 3) := dk_182 0 101 (dk_at dksX6_goesBy_4 20 rfl rfl)
theorem dX6_goesBy_116 : decode cX6_goesBy 116 = .ok (.bipush 99, 2) := dk_16 99 (dk_at dksX6_goesBy_5 0 rfl rfl)
theorem dX6_goesBy_118 : decode cX6_goesBy 118 = .ok (.if_icmp .ge 10, 3) := dk_162 0 10 (dk_at dksX6_goesBy_5 2 rfl rfl)
theorem dX6_goesBy_121 : decode cX6_goesBy 121 = .ok (.aload_n 0, 1) := dk_42 (dk_at dksX6_goesBy_5 5 rfl rfl)
theorem dX6_goesBy_122 : decode cX6_goesBy 122 = .ok (.iload_n 2, 1) := dk_28 (dk_at dksX6_goesBy_5 6 rfl rfl)
theorem dX6_goesBy_123 : decode cX6_goesBy 123 = .ok (.iconst 1, 1) := dk_4 (dk_at dksX6_goesBy_5 7 rfl rfl)
theorem dX6_goesBy_124 : decode cX6_goesBy 124 = .ok (.iconst 1, 1) := dk_4 (dk_at dksX6_goesBy_5 8 rfl rfl)
theorem dX6_goesBy_125 : decode cX6_goesBy 125 = .ok (.invokevirtual 258, 3) := dk_182 1 2 (dk_at dksX6_goesBy_5 9 rfl rfl)
theorem dX6_goesBy_128 : decode cX6_goesBy 128 = .ok (.aload_n 0, 1) := dk_42 (dk_at dksX6_goesBy_5 12 rfl rfl)
theorem dX6_goesBy_129 : decode cX6_goesBy 129 = .ok (.getfield 13, 3) := dk_180 0 13 (dk_at dksX6_goesBy_5 13 rfl rfl)
theorem dX6_goesBy_132 : decode cX6_goesBy 132 = .ok (.bipush 7, 2) := dk_16 7 (dk_at dksX6_goesBy_5 16 rfl rfl)
theorem dX6_goesBy_134 : decode cX6_goesBy 134 = .ok (.iaload, 1) := dk_46 (dk_at dksX6_goesBy_5 18 rfl rfl)
theorem dX6_goesBy_135 : decode cX6_goesBy 135 = .ok (.ifCond .le 39, 3) := dk_158 0 39 (dk_at dksX6_goesBy_5 19 rfl rfl)
theorem dX6_goesBy_138 : decode cX6_goesBy 138 = .ok (.aload_n 0, 1) := dk_42 (dk_at dksX6_goesBy_5 22 rfl rfl)
theorem dX6_goesBy_139 : decode cX6_goesBy 139 = .ok (.iload_n 2, 1) := dk_28 (dk_at dksX6_goesBy_5 23 rfl rfl)
theorem dX6_goesBy_140 : decode cX6_goesBy 140 = .ok (.iconst 1, 1) := dk_4 (dk_at dksX6_goesBy_6 0 rfl rfl)
theorem dX6_goesBy_141 : decode cX6_goesBy 141 = .ok (.invokevirtual 101, 3) := dk_182 0 101 (dk_at dksX6_goesBy_6 1 rfl rfl)
theorem dX6_goesBy_144 : decode cX6_goesBy 144 = .ok (.aload_n 0, 1) := dk_42 (dk_at dksX6_goesBy_6 4 rfl rfl)
theorem dX6_goesBy_145 : decode cX6_goesBy 145 = .ok (.getfield 13, 3) := dk_180 0 13 (dk_at dksX6_goesBy_6 5 rfl rfl)
theorem dX6_goesBy_148 : decode cX6_goesBy 148 = .ok (.bipush 7, 2) := dk_16 7 (dk_at dksX6_goesBy_6 8 rfl rfl)
theorem dX6_goesBy_150 : decode cX6_goesBy 150 = .ok (.iaload, 1) := dk_46 (dk_at dksX6_goesBy_6 10 rfl rfl)
theorem dX6_goesBy_151 : decode cX6_goesBy 151 = .ok (.if_icmp .ne 23, 3) := dk_160 0 23 (dk_at dksX6_goesBy_6 11 rfl rfl)
theorem dX6_goesBy_154 : decode cX6_goesBy 154 = .ok (.iconst 2, 1) := dk_5 (dk_at dksX6_goesBy_6 14 rfl rfl)
theorem dX6_goesBy_155 : decode cX6_goesBy 155 = .ok (.istore_n 3, 1) := dk_62 (dk_at dksX6_goesBy_6 15 rfl rfl)
theorem dX6_goesBy_156 : decode cX6_goesBy 156 = .ok (.iload_n 3, 1) := dk_29 (dk_at dksX6_goesBy_6 16 rfl rfl)
theorem dX6_goesBy_157 : decode cX6_goesBy 157 = .ok (.iconst 5, 1) := dk_8 (dk_at dksX6_goesBy_6 17 rfl rfl)
theorem dX6_goesBy_158 : decode cX6_goesBy 158 = .ok (.if_icmp .gt 16, 3) := dk_163 0 16 (dk_at dksX6_goesBy_6 18 rfl rfl)
theorem dX6_goesBy_161 : decode cX6_goesBy 161 = .ok (.aload_n 0, 1) := dk_42 (dk_at dksX6_goesBy_6 21 rfl rfl)
theorem dX6_goesBy_162 : decode cX6_goesBy 162 = .ok (.iload_n 2, 1) := dk_28 (dk_at dksX6_goesBy_6 22 rfl rfl)
theorem dX6_goesBy_163 : decode cX6_goesBy 163 = .ok (.iload_n 3, 1) := dk_29 (dk_at dksX6_goesBy_6 23 rfl rfl)
theorem dX6_goesBy_164 : decode cX6_goesBy 164 = .ok (.iconst 0, 1) := dk_3 (dk_at dksX6_goesBy_7 0 rfl rfl)
theorem dX6_goesBy_165 : decode cX6_goesBy 165 = .ok (.invokevirtual 105, 3) := dk_182 0 105 (dk_at dksX6_goesBy_7 1 rfl rfl)
theorem dX6_goesBy_168 : decode cX6_goesBy 168 = .ok (.iinc 3 1, 3) := dk_132 3 1 (dk_at dksX6_goesBy_7 4 rfl rfl)
theorem dX6_goesBy_171 : decode cX6_goesBy 171 = .ok (.goto (-15), 3) := dk_167 255 241 (dk_at dksX6_goesBy_7 7 rfl rfl)
theorem dX6_goesBy_174 : decode cX6_goesBy 174 = .ok (.iinc 2 1, 3) := dk_132 2 1 (dk_at dksX6_goesBy_7 10 rfl rfl)
theorem dX6_goesBy_177 : decode cX6_goesBy 177 = .ok (.goto (-93), 3) := dk_167 255 163 (dk_at dksX6_goesBy_7 13 rfl rfl)
theorem dX6_goesBy_180 : decode cX6_goesBy 180 = .ok (.aload_n 0, 1) := dk_42 (dk_at dksX6_goesBy_7 16 rfl rfl)
theorem dX6_goesBy_181 : decode cX6_goesBy 181 = .ok (.aload_n 0, 1) := dk_42 (dk_at dksX6_goesBy_7 17 rfl rfl)
theorem dX6_goesBy_182 : decode cX6_goesBy 182 = .ok (.getfield 222, 3) := dk_180 0 222 (dk_at dksX6_goesBy_7 18 rfl rfl)
theorem dX6_goesBy_185 : decode cX6_goesBy 185 = .ok (.iconst 1, 1) := dk_4 (dk_at dksX6_goesBy_7 21 rfl rfl)
theorem dX6_goesBy_186 : decode cX6_goesBy 186 = .ok (.iadd, 1) := dk_96 (dk_at dksX6_goesBy_7 22 rfl rfl)
theorem dX6_goesBy_187 : decode cX6_goesBy 187 = .ok (.putfield 222, 3) := dk_181 0 222 (dk_at dksX6_goesBy_8 0 rfl rfl)
theorem dX6_goesBy_190 : decode cX6_goesBy 190 = .ok (.return_, 1) := dk_177 (dk_at dksX6_goesBy_8 3 rfl rfl)
abbrev cX6_weights : ByteArray := prog_17_method_16_code
def yX6_weights : MethodName := ⟨RX6, "weights", "()I"⟩
def dkwX6_weights_1 : List UInt8 := [132, 2, 1, 167, 255, 235, 27, 172]
abbrev dktX6_weights_1 : List UInt8 := dkwX6_weights_1 ++ []
def dkwX6_weights_0 : List UInt8 := [3, 60, 4, 61, 28, 16, 12, 163, 0, 21, 27, 42, 180, 0, 13, 16, 10, 28, 96, 46, 96, 60]
abbrev dktX6_weights_0 : List UInt8 := dkwX6_weights_0 ++ dktX6_weights_1
theorem dksX6_weights_0 : cX6_weights.data.toList.drop 0 = dktX6_weights_0 := by decide +kernel
theorem dksX6_weights_1 : cX6_weights.data.toList.drop 22 = dktX6_weights_1 := dk_seg dksX6_weights_0 22 rfl rfl
theorem dX6_weights_0 : decode cX6_weights 0 = .ok (.iconst 0, 1) := dk_3 (dk_at dksX6_weights_0 0 rfl rfl)
theorem dX6_weights_1 : decode cX6_weights 1 = .ok (.istore_n 1, 1) := dk_60 (dk_at dksX6_weights_0 1 rfl rfl)
theorem dX6_weights_2 : decode cX6_weights 2 = .ok (.iconst 1, 1) := dk_4 (dk_at dksX6_weights_0 2 rfl rfl)
theorem dX6_weights_3 : decode cX6_weights 3 = .ok (.istore_n 2, 1) := dk_61 (dk_at dksX6_weights_0 3 rfl rfl)
theorem dX6_weights_4 : decode cX6_weights 4 = .ok (.iload_n 2, 1) := dk_28 (dk_at dksX6_weights_0 4 rfl rfl)
theorem dX6_weights_5 : decode cX6_weights 5 = .ok (.bipush 12, 2) := dk_16 12 (dk_at dksX6_weights_0 5 rfl rfl)
theorem dX6_weights_7 : decode cX6_weights 7 = .ok (.if_icmp .gt 21, 3) := dk_163 0 21 (dk_at dksX6_weights_0 7 rfl rfl)
theorem dX6_weights_10 : decode cX6_weights 10 = .ok (.iload_n 1, 1) := dk_27 (dk_at dksX6_weights_0 10 rfl rfl)
theorem dX6_weights_11 : decode cX6_weights 11 = .ok (.aload_n 0, 1) := dk_42 (dk_at dksX6_weights_0 11 rfl rfl)
theorem dX6_weights_12 : decode cX6_weights 12 = .ok (.getfield 13, 3) := dk_180 0 13 (dk_at dksX6_weights_0 12 rfl rfl)
theorem dX6_weights_15 : decode cX6_weights 15 = .ok (.bipush 10, 2) := dk_16 10 (dk_at dksX6_weights_0 15 rfl rfl)
theorem dX6_weights_17 : decode cX6_weights 17 = .ok (.iload_n 2, 1) := dk_28 (dk_at dksX6_weights_0 17 rfl rfl)
theorem dX6_weights_18 : decode cX6_weights 18 = .ok (.iadd, 1) := dk_96 (dk_at dksX6_weights_0 18 rfl rfl)
theorem dX6_weights_19 : decode cX6_weights 19 = .ok (.iaload, 1) := dk_46 (dk_at dksX6_weights_0 19 rfl rfl)
theorem dX6_weights_20 : decode cX6_weights 20 = .ok (.iadd, 1) := dk_96 (dk_at dksX6_weights_0 20 rfl rfl)
theorem dX6_weights_21 : decode cX6_weights 21 = .ok (.istore_n 1, 1) := dk_60 (dk_at dksX6_weights_0 21 rfl rfl)
theorem dX6_weights_22 : decode cX6_weights 22 = .ok (.iinc 2 1, 3) := dk_132 2 1 (dk_at dksX6_weights_1 0 rfl rfl)
theorem dX6_weights_25 : decode cX6_weights 25 = .ok (.goto (-21), 3) := dk_167 255 235 (dk_at dksX6_weights_1 3 rfl rfl)
theorem dX6_weights_28 : decode cX6_weights 28 = .ok (.iload_n 1, 1) := dk_27 (dk_at dksX6_weights_1 6 rfl rfl)
theorem dX6_weights_29 : decode cX6_weights 29 = .ok (.ireturn, 1) := dk_172 (dk_at dksX6_weights_1 7 rfl rfl)
abbrev cX6_drawnSize : ByteArray := prog_17_method_54_code
def yX6_drawnSize : MethodName := ⟨RX6, "drawnSize", "(I)I"⟩
def dkwX6_drawnSize_1 : List UInt8 := [4, 96, 62, 21, 4, 42, 180, 0, 13, 16, 10, 29, 96, 46, 96, 54, 4, 167, 255, 232, 29, 172]
abbrev dktX6_drawnSize_1 : List UInt8 := dkwX6_drawnSize_1 ++ []
def dkwX6_drawnSize_0 : List UInt8 := [42, 27, 182, 0, 249, 61, 4, 62, 42, 180, 0, 13, 16, 11, 46, 54, 4, 21, 4, 28, 163, 0, 24, 29]
abbrev dktX6_drawnSize_0 : List UInt8 := dkwX6_drawnSize_0 ++ dktX6_drawnSize_1
theorem dksX6_drawnSize_0 : cX6_drawnSize.data.toList.drop 0 = dktX6_drawnSize_0 := by decide +kernel
theorem dksX6_drawnSize_1 : cX6_drawnSize.data.toList.drop 24 = dktX6_drawnSize_1 := dk_seg dksX6_drawnSize_0 24 rfl rfl
theorem dX6_drawnSize_0 : decode cX6_drawnSize 0 = .ok (.aload_n 0, 1) := dk_42 (dk_at dksX6_drawnSize_0 0 rfl rfl)
theorem dX6_drawnSize_1 : decode cX6_drawnSize 1 = .ok (.iload_n 1, 1) := dk_27 (dk_at dksX6_drawnSize_0 1 rfl rfl)
theorem dX6_drawnSize_2 : decode cX6_drawnSize 2 = .ok (.invokevirtual 249, 3) := dk_182 0 249 (dk_at dksX6_drawnSize_0 2 rfl rfl)
theorem dX6_drawnSize_5 : decode cX6_drawnSize 5 = .ok (.istore_n 2, 1) := dk_61 (dk_at dksX6_drawnSize_0 5 rfl rfl)
theorem dX6_drawnSize_6 : decode cX6_drawnSize 6 = .ok (.iconst 1, 1) := dk_4 (dk_at dksX6_drawnSize_0 6 rfl rfl)
theorem dX6_drawnSize_7 : decode cX6_drawnSize 7 = .ok (.istore_n 3, 1) := dk_62 (dk_at dksX6_drawnSize_0 7 rfl rfl)
theorem dX6_drawnSize_8 : decode cX6_drawnSize 8 = .ok (.aload_n 0, 1) := dk_42 (dk_at dksX6_drawnSize_0 8 rfl rfl)
theorem dX6_drawnSize_9 : decode cX6_drawnSize 9 = .ok (.getfield 13, 3) := dk_180 0 13 (dk_at dksX6_drawnSize_0 9 rfl rfl)
theorem dX6_drawnSize_12 : decode cX6_drawnSize 12 = .ok (.bipush 11, 2) := dk_16 11 (dk_at dksX6_drawnSize_0 12 rfl rfl)
theorem dX6_drawnSize_14 : decode cX6_drawnSize 14 = .ok (.iaload, 1) := dk_46 (dk_at dksX6_drawnSize_0 14 rfl rfl)
theorem dX6_drawnSize_15 : decode cX6_drawnSize 15 = .ok (.istore 4, 2) := dk_54 4 (dk_at dksX6_drawnSize_0 15 rfl rfl)
theorem dX6_drawnSize_17 : decode cX6_drawnSize 17 = .ok (.iload 4, 2) := dk_21 4 (dk_at dksX6_drawnSize_0 17 rfl rfl)
theorem dX6_drawnSize_19 : decode cX6_drawnSize 19 = .ok (.iload_n 2, 1) := dk_28 (dk_at dksX6_drawnSize_0 19 rfl rfl)
theorem dX6_drawnSize_20 : decode cX6_drawnSize 20 = .ok (.if_icmp .gt 24, 3) := dk_163 0 24 (dk_at dksX6_drawnSize_0 20 rfl rfl)
theorem dX6_drawnSize_23 : decode cX6_drawnSize 23 = .ok (.iload_n 3, 1) := dk_29 (dk_at dksX6_drawnSize_0 23 rfl rfl)
theorem dX6_drawnSize_24 : decode cX6_drawnSize 24 = .ok (.iconst 1, 1) := dk_4 (dk_at dksX6_drawnSize_1 0 rfl rfl)
theorem dX6_drawnSize_25 : decode cX6_drawnSize 25 = .ok (.iadd, 1) := dk_96 (dk_at dksX6_drawnSize_1 1 rfl rfl)
theorem dX6_drawnSize_26 : decode cX6_drawnSize 26 = .ok (.istore_n 3, 1) := dk_62 (dk_at dksX6_drawnSize_1 2 rfl rfl)
theorem dX6_drawnSize_27 : decode cX6_drawnSize 27 = .ok (.iload 4, 2) := dk_21 4 (dk_at dksX6_drawnSize_1 3 rfl rfl)
theorem dX6_drawnSize_29 : decode cX6_drawnSize 29 = .ok (.aload_n 0, 1) := dk_42 (dk_at dksX6_drawnSize_1 5 rfl rfl)
theorem dX6_drawnSize_30 : decode cX6_drawnSize 30 = .ok (.getfield 13, 3) := dk_180 0 13 (dk_at dksX6_drawnSize_1 6 rfl rfl)
theorem dX6_drawnSize_33 : decode cX6_drawnSize 33 = .ok (.bipush 10, 2) := dk_16 10 (dk_at dksX6_drawnSize_1 9 rfl rfl)
theorem dX6_drawnSize_35 : decode cX6_drawnSize 35 = .ok (.iload_n 3, 1) := dk_29 (dk_at dksX6_drawnSize_1 11 rfl rfl)
theorem dX6_drawnSize_36 : decode cX6_drawnSize 36 = .ok (.iadd, 1) := dk_96 (dk_at dksX6_drawnSize_1 12 rfl rfl)
theorem dX6_drawnSize_37 : decode cX6_drawnSize 37 = .ok (.iaload, 1) := dk_46 (dk_at dksX6_drawnSize_1 13 rfl rfl)
theorem dX6_drawnSize_38 : decode cX6_drawnSize 38 = .ok (.iadd, 1) := dk_96 (dk_at dksX6_drawnSize_1 14 rfl rfl)
theorem dX6_drawnSize_39 : decode cX6_drawnSize 39 = .ok (.istore 4, 2) := dk_54 4 (dk_at dksX6_drawnSize_1 15 rfl rfl)
theorem dX6_drawnSize_41 : decode cX6_drawnSize 41 = .ok (.goto (-24), 3) := dk_167 255 232 (dk_at dksX6_drawnSize_1 17 rfl rfl)
theorem dX6_drawnSize_44 : decode cX6_drawnSize 44 = .ok (.iload_n 3, 1) := dk_29 (dk_at dksX6_drawnSize_1 20 rfl rfl)
theorem dX6_drawnSize_45 : decode cX6_drawnSize 45 = .ok (.ireturn, 1) := dk_172 (dk_at dksX6_drawnSize_1 21 rfl rfl)
abbrev cX6_plan : ByteArray := prog_17_method_62_code
def yX6_plan : MethodName := ⟨RX6, "plan", "(IIIII)J"⟩
def dkwX6_plan_7 : List UInt8 := [96, 47, 42, 180, 0, 56, 28, 47, 101, 173]
abbrev dktX6_plan_7 : List UInt8 := dkwX6_plan_7 ++ []
def dkwX6_plan_6 : List UInt8 := [21, 5, 4, 160, 0, 15, 42, 28, 29, 21, 4, 182, 1, 49, 133, 167, 0, 18, 42, 180, 0, 56, 28, 4]
abbrev dktX6_plan_6 : List UInt8 := dkwX6_plan_6 ++ dktX6_plan_7
def dkwX6_plan_5 : List UInt8 := [167, 0, 4, 27, 29, 21, 4, 182, 1, 46, 21, 5, 154, 0, 12, 42, 180, 0, 56, 28, 47, 167, 0, 36]
abbrev dktX6_plan_5 : List UInt8 := dkwX6_plan_5 ++ dktX6_plan_6
def dkwX6_plan_4 : List UInt8 := [5, 160, 0, 13, 28, 16, 24, 160, 0, 7, 20, 1, 44, 173, 42, 21, 5, 4, 160, 0, 9, 27, 4, 100]
abbrev dktX6_plan_4 : List UInt8 := dkwX6_plan_4 ++ dktX6_plan_5
def dkwX6_plan_3 : List UInt8 := [153, 0, 14, 42, 182, 1, 22, 158, 0, 7, 4, 167, 0, 4, 3, 54, 6, 21, 6, 153, 0, 15, 21, 5]
abbrev dktX6_plan_3 : List UInt8 := dkwX6_plan_3 ++ dktX6_plan_4
def dkwX6_plan_2 : List UInt8 := [153, 0, 38, 42, 21, 4, 3, 17, 3, 232, 182, 0, 109, 153, 0, 25, 42, 21, 5, 3, 5, 182, 0, 109]
abbrev dktX6_plan_2 : List UInt8 := dkwX6_plan_2 ++ dktX6_plan_3
def dkwX6_plan_1 : List UInt8 := [153, 0, 60, 42, 28, 3, 16, 24, 182, 0, 109, 153, 0, 49, 42, 29, 4, 16, 9, 182, 0, 109]
abbrev dktX6_plan_1 : List UInt8 := dkwX6_plan_1 ++ dktX6_plan_2
def dkwX6_plan_0 : List UInt8 := [42, 3, 181, 0, 90, 42, 27, 21, 5, 4, 160, 0, 7, 4, 167, 0, 4, 3, 16, 60, 182, 0, 109]
abbrev dktX6_plan_0 : List UInt8 := dkwX6_plan_0 ++ dktX6_plan_1
theorem dksX6_plan_0 : cX6_plan.data.toList.drop 0 = dktX6_plan_0 := by decide +kernel
theorem dksX6_plan_1 : cX6_plan.data.toList.drop 23 = dktX6_plan_1 := dk_seg dksX6_plan_0 23 rfl rfl
theorem dksX6_plan_2 : cX6_plan.data.toList.drop 45 = dktX6_plan_2 := dk_seg dksX6_plan_1 22 rfl rfl
theorem dksX6_plan_3 : cX6_plan.data.toList.drop 69 = dktX6_plan_3 := dk_seg dksX6_plan_2 24 rfl rfl
theorem dksX6_plan_4 : cX6_plan.data.toList.drop 93 = dktX6_plan_4 := dk_seg dksX6_plan_3 24 rfl rfl
theorem dksX6_plan_5 : cX6_plan.data.toList.drop 117 = dktX6_plan_5 := dk_seg dksX6_plan_4 24 rfl rfl
theorem dksX6_plan_6 : cX6_plan.data.toList.drop 141 = dktX6_plan_6 := dk_seg dksX6_plan_5 24 rfl rfl
theorem dksX6_plan_7 : cX6_plan.data.toList.drop 165 = dktX6_plan_7 := dk_seg dksX6_plan_6 24 rfl rfl
theorem dX6_plan_0 : decode cX6_plan 0 = .ok (.aload_n 0, 1) := dk_42 (dk_at dksX6_plan_0 0 rfl rfl)
theorem dX6_plan_1 : decode cX6_plan 1 = .ok (.iconst 0, 1) := dk_3 (dk_at dksX6_plan_0 1 rfl rfl)
theorem dX6_plan_2 : decode cX6_plan 2 = .ok (.putfield 90, 3) := dk_181 0 90 (dk_at dksX6_plan_0 2 rfl rfl)
theorem dX6_plan_5 : decode cX6_plan 5 = .ok (.aload_n 0, 1) := dk_42 (dk_at dksX6_plan_0 5 rfl rfl)
theorem dX6_plan_6 : decode cX6_plan 6 = .ok (.iload_n 1, 1) := dk_27 (dk_at dksX6_plan_0 6 rfl rfl)
theorem dX6_plan_7 : decode cX6_plan 7 = .ok (.iload 5, 2) := dk_21 5 (dk_at dksX6_plan_0 7 rfl rfl)
theorem dX6_plan_9 : decode cX6_plan 9 = .ok (.iconst 1, 1) := dk_4 (dk_at dksX6_plan_0 9 rfl rfl)
theorem dX6_plan_10 : decode cX6_plan 10 = .ok (.if_icmp .ne 7, 3) := dk_160 0 7 (dk_at dksX6_plan_0 10 rfl rfl)
theorem dX6_plan_13 : decode cX6_plan 13 = .ok (.iconst 1, 1) := dk_4 (dk_at dksX6_plan_0 13 rfl rfl)
theorem dX6_plan_14 : decode cX6_plan 14 = .ok (.goto 4, 3) := dk_167 0 4 (dk_at dksX6_plan_0 14 rfl rfl)
theorem dX6_plan_17 : decode cX6_plan 17 = .ok (.iconst 0, 1) := dk_3 (dk_at dksX6_plan_0 17 rfl rfl)
theorem dX6_plan_18 : decode cX6_plan 18 = .ok (.bipush 60, 2) := dk_16 60 (dk_at dksX6_plan_0 18 rfl rfl)
theorem dX6_plan_20 : decode cX6_plan 20 = .ok (.invokevirtual 109, 3) := dk_182 0 109 (dk_at dksX6_plan_0 20 rfl rfl)
theorem dX6_plan_23 : decode cX6_plan 23 = .ok (.ifCond .eq 60, 3) := dk_153 0 60 (dk_at dksX6_plan_1 0 rfl rfl)
theorem dX6_plan_26 : decode cX6_plan 26 = .ok (.aload_n 0, 1) := dk_42 (dk_at dksX6_plan_1 3 rfl rfl)
theorem dX6_plan_27 : decode cX6_plan 27 = .ok (.iload_n 2, 1) := dk_28 (dk_at dksX6_plan_1 4 rfl rfl)
theorem dX6_plan_28 : decode cX6_plan 28 = .ok (.iconst 0, 1) := dk_3 (dk_at dksX6_plan_1 5 rfl rfl)
theorem dX6_plan_29 : decode cX6_plan 29 = .ok (.bipush 24, 2) := dk_16 24 (dk_at dksX6_plan_1 6 rfl rfl)
theorem dX6_plan_31 : decode cX6_plan 31 = .ok (.invokevirtual 109, 3) := dk_182 0 109 (dk_at dksX6_plan_1 8 rfl rfl)
theorem dX6_plan_34 : decode cX6_plan 34 = .ok (.ifCond .eq 49, 3) := dk_153 0 49 (dk_at dksX6_plan_1 11 rfl rfl)
theorem dX6_plan_37 : decode cX6_plan 37 = .ok (.aload_n 0, 1) := dk_42 (dk_at dksX6_plan_1 14 rfl rfl)
theorem dX6_plan_38 : decode cX6_plan 38 = .ok (.iload_n 3, 1) := dk_29 (dk_at dksX6_plan_1 15 rfl rfl)
theorem dX6_plan_39 : decode cX6_plan 39 = .ok (.iconst 1, 1) := dk_4 (dk_at dksX6_plan_1 16 rfl rfl)
theorem dX6_plan_40 : decode cX6_plan 40 = .ok (.bipush 9, 2) := dk_16 9 (dk_at dksX6_plan_1 17 rfl rfl)
theorem dX6_plan_42 : decode cX6_plan 42 = .ok (.invokevirtual 109, 3) := dk_182 0 109 (dk_at dksX6_plan_1 19 rfl rfl)
theorem dX6_plan_45 : decode cX6_plan 45 = .ok (.ifCond .eq 38, 3) := dk_153 0 38 (dk_at dksX6_plan_2 0 rfl rfl)
theorem dX6_plan_48 : decode cX6_plan 48 = .ok (.aload_n 0, 1) := dk_42 (dk_at dksX6_plan_2 3 rfl rfl)
theorem dX6_plan_49 : decode cX6_plan 49 = .ok (.iload 4, 2) := dk_21 4 (dk_at dksX6_plan_2 4 rfl rfl)
theorem dX6_plan_51 : decode cX6_plan 51 = .ok (.iconst 0, 1) := dk_3 (dk_at dksX6_plan_2 6 rfl rfl)
theorem dX6_plan_52 : decode cX6_plan 52 = .ok (.sipush 1000, 3) := dk_17 3 232 (dk_at dksX6_plan_2 7 rfl rfl)
theorem dX6_plan_55 : decode cX6_plan 55 = .ok (.invokevirtual 109, 3) := dk_182 0 109 (dk_at dksX6_plan_2 10 rfl rfl)
theorem dX6_plan_58 : decode cX6_plan 58 = .ok (.ifCond .eq 25, 3) := dk_153 0 25 (dk_at dksX6_plan_2 13 rfl rfl)
theorem dX6_plan_61 : decode cX6_plan 61 = .ok (.aload_n 0, 1) := dk_42 (dk_at dksX6_plan_2 16 rfl rfl)
theorem dX6_plan_62 : decode cX6_plan 62 = .ok (.iload 5, 2) := dk_21 5 (dk_at dksX6_plan_2 17 rfl rfl)
theorem dX6_plan_64 : decode cX6_plan 64 = .ok (.iconst 0, 1) := dk_3 (dk_at dksX6_plan_2 19 rfl rfl)
theorem dX6_plan_65 : decode cX6_plan 65 = .ok (.iconst 2, 1) := dk_5 (dk_at dksX6_plan_2 20 rfl rfl)
theorem dX6_plan_66 : decode cX6_plan 66 = .ok (.invokevirtual 109, 3) := dk_182 0 109 (dk_at dksX6_plan_2 21 rfl rfl)
theorem dX6_plan_69 : decode cX6_plan 69 = .ok (.ifCond .eq 14, 3) := dk_153 0 14 (dk_at dksX6_plan_3 0 rfl rfl)
theorem dX6_plan_72 : decode cX6_plan 72 = .ok (.aload_n 0, 1) := dk_42 (dk_at dksX6_plan_3 3 rfl rfl)
theorem dX6_plan_73 : decode cX6_plan 73 = .ok (.invokevirtual 278, 3) := dk_182 1 22 (dk_at dksX6_plan_3 4 rfl rfl)
theorem dX6_plan_76 : decode cX6_plan 76 = .ok (.ifCond .le 7, 3) := dk_158 0 7 (dk_at dksX6_plan_3 7 rfl rfl)
theorem dX6_plan_79 : decode cX6_plan 79 = .ok (.iconst 1, 1) := dk_4 (dk_at dksX6_plan_3 10 rfl rfl)
theorem dX6_plan_80 : decode cX6_plan 80 = .ok (.goto 4, 3) := dk_167 0 4 (dk_at dksX6_plan_3 11 rfl rfl)
theorem dX6_plan_83 : decode cX6_plan 83 = .ok (.iconst 0, 1) := dk_3 (dk_at dksX6_plan_3 14 rfl rfl)
theorem dX6_plan_84 : decode cX6_plan 84 = .ok (.istore 6, 2) := dk_54 6 (dk_at dksX6_plan_3 15 rfl rfl)
theorem dX6_plan_86 : decode cX6_plan 86 = .ok (.iload 6, 2) := dk_21 6 (dk_at dksX6_plan_3 17 rfl rfl)
theorem dX6_plan_88 : decode cX6_plan 88 = .ok (.ifCond .eq 15, 3) := dk_153 0 15 (dk_at dksX6_plan_3 19 rfl rfl)
theorem dX6_plan_91 : decode cX6_plan 91 = .ok (.iload 5, 2) := dk_21 5 (dk_at dksX6_plan_3 22 rfl rfl)
theorem dX6_plan_93 : decode cX6_plan 93 = .ok (.iconst 2, 1) := dk_5 (dk_at dksX6_plan_4 0 rfl rfl)
theorem dX6_plan_94 : decode cX6_plan 94 = .ok (.if_icmp .ne 13, 3) := dk_160 0 13 (dk_at dksX6_plan_4 1 rfl rfl)
theorem dX6_plan_97 : decode cX6_plan 97 = .ok (.iload_n 2, 1) := dk_28 (dk_at dksX6_plan_4 4 rfl rfl)
theorem dX6_plan_98 : decode cX6_plan 98 = .ok (.bipush 24, 2) := dk_16 24 (dk_at dksX6_plan_4 5 rfl rfl)
theorem dX6_plan_100 : decode cX6_plan 100 = .ok (.if_icmp .ne 7, 3) := dk_160 0 7 (dk_at dksX6_plan_4 7 rfl rfl)
theorem dX6_plan_103 : decode cX6_plan 103 = .ok (.ldc2_w 300, 3) := dk_20 1 44 (dk_at dksX6_plan_4 10 rfl rfl)
theorem dX6_plan_106 : decode cX6_plan 106 = .ok (.lreturn, 1) := dk_173 (dk_at dksX6_plan_4 13 rfl rfl)
theorem dX6_plan_107 : decode cX6_plan 107 = .ok (.aload_n 0, 1) := dk_42 (dk_at dksX6_plan_4 14 rfl rfl)
theorem dX6_plan_108 : decode cX6_plan 108 = .ok (.iload 5, 2) := dk_21 5 (dk_at dksX6_plan_4 15 rfl rfl)
theorem dX6_plan_110 : decode cX6_plan 110 = .ok (.iconst 1, 1) := dk_4 (dk_at dksX6_plan_4 17 rfl rfl)
theorem dX6_plan_111 : decode cX6_plan 111 = .ok (.if_icmp .ne 9, 3) := dk_160 0 9 (dk_at dksX6_plan_4 18 rfl rfl)
theorem dX6_plan_114 : decode cX6_plan 114 = .ok (.iload_n 1, 1) := dk_27 (dk_at dksX6_plan_4 21 rfl rfl)
theorem dX6_plan_115 : decode cX6_plan 115 = .ok (.iconst 1, 1) := dk_4 (dk_at dksX6_plan_4 22 rfl rfl)
theorem dX6_plan_116 : decode cX6_plan 116 = .ok (.isub, 1) := dk_100 (dk_at dksX6_plan_4 23 rfl rfl)
theorem dX6_plan_117 : decode cX6_plan 117 = .ok (.goto 4, 3) := dk_167 0 4 (dk_at dksX6_plan_5 0 rfl rfl)
theorem dX6_plan_120 : decode cX6_plan 120 = .ok (.iload_n 1, 1) := dk_27 (dk_at dksX6_plan_5 3 rfl rfl)
theorem dX6_plan_121 : decode cX6_plan 121 = .ok (.iload_n 3, 1) := dk_29 (dk_at dksX6_plan_5 4 rfl rfl)
theorem dX6_plan_122 : decode cX6_plan 122 = .ok (.iload 4, 2) := dk_21 4 (dk_at dksX6_plan_5 5 rfl rfl)
theorem dX6_plan_124 : decode cX6_plan 124 = .ok (.invokevirtual 302, 3) := dk_182 1 46 (dk_at dksX6_plan_5 7 rfl rfl)
theorem dX6_plan_127 : decode cX6_plan 127 = .ok (.iload 5, 2) := dk_21 5 (dk_at dksX6_plan_5 10 rfl rfl)
theorem dX6_plan_129 : decode cX6_plan 129 = .ok (.ifCond .ne 12, 3) := dk_154 0 12 (dk_at dksX6_plan_5 12 rfl rfl)
theorem dX6_plan_132 : decode cX6_plan 132 = .ok (.aload_n 0, 1) := dk_42 (dk_at dksX6_plan_5 15 rfl rfl)
theorem dX6_plan_133 : decode cX6_plan 133 = .ok (.getfield 56, 3) := dk_180 0 56 (dk_at dksX6_plan_5 16 rfl rfl)
theorem dX6_plan_136 : decode cX6_plan 136 = .ok (.iload_n 2, 1) := dk_28 (dk_at dksX6_plan_5 19 rfl rfl)
theorem dX6_plan_137 : decode cX6_plan 137 = .ok (.laload, 1) := dk_47 (dk_at dksX6_plan_5 20 rfl rfl)
theorem dX6_plan_138 : decode cX6_plan 138 = .ok (.goto 36, 3) := dk_167 0 36 (dk_at dksX6_plan_5 21 rfl rfl)
theorem dX6_plan_141 : decode cX6_plan 141 = .ok (.iload 5, 2) := dk_21 5 (dk_at dksX6_plan_6 0 rfl rfl)
theorem dX6_plan_143 : decode cX6_plan 143 = .ok (.iconst 1, 1) := dk_4 (dk_at dksX6_plan_6 2 rfl rfl)
theorem dX6_plan_144 : decode cX6_plan 144 = .ok (.if_icmp .ne 15, 3) := dk_160 0 15 (dk_at dksX6_plan_6 3 rfl rfl)
theorem dX6_plan_147 : decode cX6_plan 147 = .ok (.aload_n 0, 1) := dk_42 (dk_at dksX6_plan_6 6 rfl rfl)
theorem dX6_plan_148 : decode cX6_plan 148 = .ok (.iload_n 2, 1) := dk_28 (dk_at dksX6_plan_6 7 rfl rfl)
theorem dX6_plan_149 : decode cX6_plan 149 = .ok (.iload_n 3, 1) := dk_29 (dk_at dksX6_plan_6 8 rfl rfl)
theorem dX6_plan_150 : decode cX6_plan 150 = .ok (.iload 4, 2) := dk_21 4 (dk_at dksX6_plan_6 9 rfl rfl)
theorem dX6_plan_152 : decode cX6_plan 152 = .ok (.invokevirtual 305, 3) := dk_182 1 49 (dk_at dksX6_plan_6 11 rfl rfl)
theorem dX6_plan_155 : decode cX6_plan 155 = .ok (.i2l, 1) := dk_133 (dk_at dksX6_plan_6 14 rfl rfl)
theorem dX6_plan_156 : decode cX6_plan 156 = .ok (.goto 18, 3) := dk_167 0 18 (dk_at dksX6_plan_6 15 rfl rfl)
theorem dX6_plan_159 : decode cX6_plan 159 = .ok (.aload_n 0, 1) := dk_42 (dk_at dksX6_plan_6 18 rfl rfl)
theorem dX6_plan_160 : decode cX6_plan 160 = .ok (.getfield 56, 3) := dk_180 0 56 (dk_at dksX6_plan_6 19 rfl rfl)
theorem dX6_plan_163 : decode cX6_plan 163 = .ok (.iload_n 2, 1) := dk_28 (dk_at dksX6_plan_6 22 rfl rfl)
theorem dX6_plan_164 : decode cX6_plan 164 = .ok (.iconst 1, 1) := dk_4 (dk_at dksX6_plan_6 23 rfl rfl)
theorem dX6_plan_165 : decode cX6_plan 165 = .ok (.iadd, 1) := dk_96 (dk_at dksX6_plan_7 0 rfl rfl)
theorem dX6_plan_166 : decode cX6_plan 166 = .ok (.laload, 1) := dk_47 (dk_at dksX6_plan_7 1 rfl rfl)
theorem dX6_plan_167 : decode cX6_plan 167 = .ok (.aload_n 0, 1) := dk_42 (dk_at dksX6_plan_7 2 rfl rfl)
theorem dX6_plan_168 : decode cX6_plan 168 = .ok (.getfield 56, 3) := dk_180 0 56 (dk_at dksX6_plan_7 3 rfl rfl)
theorem dX6_plan_171 : decode cX6_plan 171 = .ok (.iload_n 2, 1) := dk_28 (dk_at dksX6_plan_7 6 rfl rfl)
theorem dX6_plan_172 : decode cX6_plan 172 = .ok (.laload, 1) := dk_47 (dk_at dksX6_plan_7 7 rfl rfl)
theorem dX6_plan_173 : decode cX6_plan 173 = .ok (.lsub, 1) := dk_101 (dk_at dksX6_plan_7 8 rfl rfl)
theorem dX6_plan_174 : decode cX6_plan 174 = .ok (.lreturn, 1) := dk_173 (dk_at dksX6_plan_7 9 rfl rfl)
abbrev cX6_plans : ByteArray := prog_17_method_60_code
def yX6_plans : MethodName := ⟨RX6, "plans", "(III)V"⟩
def dkwX6_plans_1 : List UInt8 := [3, 54, 4, 21, 4, 27, 162, 0, 15, 42, 28, 29, 182, 1, 41, 132, 4, 1, 167, 255, 241, 177]
abbrev dktX6_plans_1 : List UInt8 := dkwX6_plans_1 ++ []
def dkwX6_plans_0 : List UInt8 := [3, 54, 4, 21, 4, 16, 24, 163, 0, 17, 42, 180, 0, 56, 21, 4, 9, 80, 132, 4, 1, 167, 255, 238]
abbrev dktX6_plans_0 : List UInt8 := dkwX6_plans_0 ++ dktX6_plans_1
theorem dksX6_plans_0 : cX6_plans.data.toList.drop 0 = dktX6_plans_0 := by decide +kernel
theorem dksX6_plans_1 : cX6_plans.data.toList.drop 24 = dktX6_plans_1 := dk_seg dksX6_plans_0 24 rfl rfl
theorem dX6_plans_0 : decode cX6_plans 0 = .ok (.iconst 0, 1) := dk_3 (dk_at dksX6_plans_0 0 rfl rfl)
theorem dX6_plans_1 : decode cX6_plans 1 = .ok (.istore 4, 2) := dk_54 4 (dk_at dksX6_plans_0 1 rfl rfl)
theorem dX6_plans_3 : decode cX6_plans 3 = .ok (.iload 4, 2) := dk_21 4 (dk_at dksX6_plans_0 3 rfl rfl)
theorem dX6_plans_5 : decode cX6_plans 5 = .ok (.bipush 24, 2) := dk_16 24 (dk_at dksX6_plans_0 5 rfl rfl)
theorem dX6_plans_7 : decode cX6_plans 7 = .ok (.if_icmp .gt 17, 3) := dk_163 0 17 (dk_at dksX6_plans_0 7 rfl rfl)
theorem dX6_plans_10 : decode cX6_plans 10 = .ok (.aload_n 0, 1) := dk_42 (dk_at dksX6_plans_0 10 rfl rfl)
theorem dX6_plans_11 : decode cX6_plans 11 = .ok (.getfield 56, 3) := dk_180 0 56 (dk_at dksX6_plans_0 11 rfl rfl)
theorem dX6_plans_14 : decode cX6_plans 14 = .ok (.iload 4, 2) := dk_21 4 (dk_at dksX6_plans_0 14 rfl rfl)
theorem dX6_plans_16 : decode cX6_plans 16 = .ok (.lconst 0, 1) := dk_9 (dk_at dksX6_plans_0 16 rfl rfl)
theorem dX6_plans_17 : decode cX6_plans 17 = .ok (.lastore, 1) := dk_80 (dk_at dksX6_plans_0 17 rfl rfl)
theorem dX6_plans_18 : decode cX6_plans 18 = .ok (.iinc 4 1, 3) := dk_132 4 1 (dk_at dksX6_plans_0 18 rfl rfl)
theorem dX6_plans_21 : decode cX6_plans 21 = .ok (.goto (-18), 3) := dk_167 255 238 (dk_at dksX6_plans_0 21 rfl rfl)
theorem dX6_plans_24 : decode cX6_plans 24 = .ok (.iconst 0, 1) := dk_3 (dk_at dksX6_plans_1 0 rfl rfl)
theorem dX6_plans_25 : decode cX6_plans 25 = .ok (.istore 4, 2) := dk_54 4 (dk_at dksX6_plans_1 1 rfl rfl)
theorem dX6_plans_27 : decode cX6_plans 27 = .ok (.iload 4, 2) := dk_21 4 (dk_at dksX6_plans_1 3 rfl rfl)
theorem dX6_plans_29 : decode cX6_plans 29 = .ok (.iload_n 1, 1) := dk_27 (dk_at dksX6_plans_1 5 rfl rfl)
theorem dX6_plans_30 : decode cX6_plans 30 = .ok (.if_icmp .ge 15, 3) := dk_162 0 15 (dk_at dksX6_plans_1 6 rfl rfl)
theorem dX6_plans_33 : decode cX6_plans 33 = .ok (.aload_n 0, 1) := dk_42 (dk_at dksX6_plans_1 9 rfl rfl)
theorem dX6_plans_34 : decode cX6_plans 34 = .ok (.iload_n 2, 1) := dk_28 (dk_at dksX6_plans_1 10 rfl rfl)
theorem dX6_plans_35 : decode cX6_plans 35 = .ok (.iload_n 3, 1) := dk_29 (dk_at dksX6_plans_1 11 rfl rfl)
theorem dX6_plans_36 : decode cX6_plans 36 = .ok (.invokevirtual 297, 3) := dk_182 1 41 (dk_at dksX6_plans_1 12 rfl rfl)
theorem dX6_plans_39 : decode cX6_plans 39 = .ok (.iinc 4 1, 3) := dk_132 4 1 (dk_at dksX6_plans_1 15 rfl rfl)
theorem dX6_plans_42 : decode cX6_plans 42 = .ok (.goto (-15), 3) := dk_167 255 241 (dk_at dksX6_plans_1 18 rfl rfl)
theorem dX6_plans_45 : decode cX6_plans 45 = .ok (.return_, 1) := dk_177 (dk_at dksX6_plans_1 21 rfl rfl)
abbrev cX6_dealsLess : ByteArray := prog_17_method_59_code
def yX6_dealsLess : MethodName := ⟨RX6, "dealsLess", "(II)V"⟩
def dkwX6_dealsLess_5 : List UInt8 := [180, 0, 56, 29, 42, 180, 0, 60, 29, 47, 80, 132, 3, 1, 167, 255, 235, 177]
abbrev dktX6_dealsLess_5 : List UInt8 := dkwX6_dealsLess_5 ++ []
def dkwX6_dealsLess_4 : List UInt8 := [42, 182, 1, 22, 133, 109, 80, 132, 3, 1, 167, 255, 154, 3, 62, 29, 16, 24, 163, 0, 21, 42]
abbrev dktX6_dealsLess_4 : List UInt8 := dkwX6_dealsLess_4 ++ dktX6_dealsLess_5
def dkwX6_dealsLess_3 : List UInt8 := [21, 6, 96, 46, 133, 22, 7, 105, 97, 55, 4, 132, 6, 1, 167, 255, 186, 42, 180, 0, 60, 29, 22, 4]
abbrev dktX6_dealsLess_3 : List UInt8 := dkwX6_dealsLess_3 ++ dktX6_dealsLess_4
def dkwX6_dealsLess_2 : List UInt8 := [148, 158, 0, 14, 42, 29, 27, 21, 6, 28, 182, 1, 37, 55, 7, 22, 4, 42, 180, 0, 13, 16, 10]
abbrev dktX6_dealsLess_2 : List UInt8 := dkwX6_dealsLess_2 ++ dktX6_dealsLess_3
def dkwX6_dealsLess_1 : List UInt8 := [21, 6, 28, 182, 1, 33, 55, 7, 29, 27, 161, 0, 29, 42, 29, 27, 21, 6, 28, 182, 1, 37, 22, 7]
abbrev dktX6_dealsLess_1 : List UInt8 := dkwX6_dealsLess_1 ++ dktX6_dealsLess_2
def dkwX6_dealsLess_0 : List UInt8 := [3, 62, 29, 16, 24, 163, 0, 102, 9, 55, 4, 4, 54, 6, 21, 6, 16, 12, 163, 0, 69, 42, 29]
abbrev dktX6_dealsLess_0 : List UInt8 := dkwX6_dealsLess_0 ++ dktX6_dealsLess_1
theorem dksX6_dealsLess_0 : cX6_dealsLess.data.toList.drop 0 = dktX6_dealsLess_0 := by decide +kernel
theorem dksX6_dealsLess_1 : cX6_dealsLess.data.toList.drop 23 = dktX6_dealsLess_1 := dk_seg dksX6_dealsLess_0 23 rfl rfl
theorem dksX6_dealsLess_2 : cX6_dealsLess.data.toList.drop 47 = dktX6_dealsLess_2 := dk_seg dksX6_dealsLess_1 24 rfl rfl
theorem dksX6_dealsLess_3 : cX6_dealsLess.data.toList.drop 70 = dktX6_dealsLess_3 := dk_seg dksX6_dealsLess_2 23 rfl rfl
theorem dksX6_dealsLess_4 : cX6_dealsLess.data.toList.drop 94 = dktX6_dealsLess_4 := dk_seg dksX6_dealsLess_3 24 rfl rfl
theorem dksX6_dealsLess_5 : cX6_dealsLess.data.toList.drop 116 = dktX6_dealsLess_5 := dk_seg dksX6_dealsLess_4 22 rfl rfl
theorem dX6_dealsLess_0 : decode cX6_dealsLess 0 = .ok (.iconst 0, 1) := dk_3 (dk_at dksX6_dealsLess_0 0 rfl rfl)
theorem dX6_dealsLess_1 : decode cX6_dealsLess 1 = .ok (.istore_n 3, 1) := dk_62 (dk_at dksX6_dealsLess_0 1 rfl rfl)
theorem dX6_dealsLess_2 : decode cX6_dealsLess 2 = .ok (.iload_n 3, 1) := dk_29 (dk_at dksX6_dealsLess_0 2 rfl rfl)
theorem dX6_dealsLess_3 : decode cX6_dealsLess 3 = .ok (.bipush 24, 2) := dk_16 24 (dk_at dksX6_dealsLess_0 3 rfl rfl)
theorem dX6_dealsLess_5 : decode cX6_dealsLess 5 = .ok (.if_icmp .gt 102, 3) := dk_163 0 102 (dk_at dksX6_dealsLess_0 5 rfl rfl)
theorem dX6_dealsLess_8 : decode cX6_dealsLess 8 = .ok (.lconst 0, 1) := dk_9 (dk_at dksX6_dealsLess_0 8 rfl rfl)
theorem dX6_dealsLess_9 : decode cX6_dealsLess 9 = .ok (.lstore 4, 2) := dk_55 4 (dk_at dksX6_dealsLess_0 9 rfl rfl)
theorem dX6_dealsLess_11 : decode cX6_dealsLess 11 = .ok (.iconst 1, 1) := dk_4 (dk_at dksX6_dealsLess_0 11 rfl rfl)
theorem dX6_dealsLess_12 : decode cX6_dealsLess 12 = .ok (.istore 6, 2) := dk_54 6 (dk_at dksX6_dealsLess_0 12 rfl rfl)
theorem dX6_dealsLess_14 : decode cX6_dealsLess 14 = .ok (.iload 6, 2) := dk_21 6 (dk_at dksX6_dealsLess_0 14 rfl rfl)
theorem dX6_dealsLess_16 : decode cX6_dealsLess 16 = .ok (.bipush 12, 2) := dk_16 12 (dk_at dksX6_dealsLess_0 16 rfl rfl)
theorem dX6_dealsLess_18 : decode cX6_dealsLess 18 = .ok (.if_icmp .gt 69, 3) := dk_163 0 69 (dk_at dksX6_dealsLess_0 18 rfl rfl)
theorem dX6_dealsLess_21 : decode cX6_dealsLess 21 = .ok (.aload_n 0, 1) := dk_42 (dk_at dksX6_dealsLess_0 21 rfl rfl)
theorem dX6_dealsLess_22 : decode cX6_dealsLess 22 = .ok (.iload_n 3, 1) := dk_29 (dk_at dksX6_dealsLess_0 22 rfl rfl)
theorem dX6_dealsLess_23 : decode cX6_dealsLess 23 = .ok (.iload 6, 2) := dk_21 6 (dk_at dksX6_dealsLess_1 0 rfl rfl)
theorem dX6_dealsLess_25 : decode cX6_dealsLess 25 = .ok (.iload_n 2, 1) := dk_28 (dk_at dksX6_dealsLess_1 2 rfl rfl)
theorem dX6_dealsLess_26 : decode cX6_dealsLess 26 = .ok (.invokevirtual 289, 3) := dk_182 1 33 (dk_at dksX6_dealsLess_1 3 rfl rfl)
theorem dX6_dealsLess_29 : decode cX6_dealsLess 29 = .ok (.lstore 7, 2) := dk_55 7 (dk_at dksX6_dealsLess_1 6 rfl rfl)
theorem dX6_dealsLess_31 : decode cX6_dealsLess 31 = .ok (.iload_n 3, 1) := dk_29 (dk_at dksX6_dealsLess_1 8 rfl rfl)
theorem dX6_dealsLess_32 : decode cX6_dealsLess 32 = .ok (.iload_n 1, 1) := dk_27 (dk_at dksX6_dealsLess_1 9 rfl rfl)
theorem dX6_dealsLess_33 : decode cX6_dealsLess 33 = .ok (.if_icmp .lt 29, 3) := dk_161 0 29 (dk_at dksX6_dealsLess_1 10 rfl rfl)
theorem dX6_dealsLess_36 : decode cX6_dealsLess 36 = .ok (.aload_n 0, 1) := dk_42 (dk_at dksX6_dealsLess_1 13 rfl rfl)
theorem dX6_dealsLess_37 : decode cX6_dealsLess 37 = .ok (.iload_n 3, 1) := dk_29 (dk_at dksX6_dealsLess_1 14 rfl rfl)
theorem dX6_dealsLess_38 : decode cX6_dealsLess 38 = .ok (.iload_n 1, 1) := dk_27 (dk_at dksX6_dealsLess_1 15 rfl rfl)
theorem dX6_dealsLess_39 : decode cX6_dealsLess 39 = .ok (.iload 6, 2) := dk_21 6 (dk_at dksX6_dealsLess_1 16 rfl rfl)
theorem dX6_dealsLess_41 : decode cX6_dealsLess 41 = .ok (.iload_n 2, 1) := dk_28 (dk_at dksX6_dealsLess_1 18 rfl rfl)
theorem dX6_dealsLess_42 : decode cX6_dealsLess 42 = .ok (.invokevirtual 293, 3) := dk_182 1 37 (dk_at dksX6_dealsLess_1 19 rfl rfl)
theorem dX6_dealsLess_45 : decode cX6_dealsLess 45 = .ok (.lload 7, 2) := dk_22 7 (dk_at dksX6_dealsLess_1 22 rfl rfl)
theorem dX6_dealsLess_47 : decode cX6_dealsLess 47 = .ok (.lcmp, 1) := dk_148 (dk_at dksX6_dealsLess_2 0 rfl rfl)
theorem dX6_dealsLess_48 : decode cX6_dealsLess 48 = .ok (.ifCond .le 14, 3) := dk_158 0 14 (dk_at dksX6_dealsLess_2 1 rfl rfl)
theorem dX6_dealsLess_51 : decode cX6_dealsLess 51 = .ok (.aload_n 0, 1) := dk_42 (dk_at dksX6_dealsLess_2 4 rfl rfl)
theorem dX6_dealsLess_52 : decode cX6_dealsLess 52 = .ok (.iload_n 3, 1) := dk_29 (dk_at dksX6_dealsLess_2 5 rfl rfl)
theorem dX6_dealsLess_53 : decode cX6_dealsLess 53 = .ok (.iload_n 1, 1) := dk_27 (dk_at dksX6_dealsLess_2 6 rfl rfl)
theorem dX6_dealsLess_54 : decode cX6_dealsLess 54 = .ok (.iload 6, 2) := dk_21 6 (dk_at dksX6_dealsLess_2 7 rfl rfl)
theorem dX6_dealsLess_56 : decode cX6_dealsLess 56 = .ok (.iload_n 2, 1) := dk_28 (dk_at dksX6_dealsLess_2 9 rfl rfl)
theorem dX6_dealsLess_57 : decode cX6_dealsLess 57 = .ok (.invokevirtual 293, 3) := dk_182 1 37 (dk_at dksX6_dealsLess_2 10 rfl rfl)
theorem dX6_dealsLess_60 : decode cX6_dealsLess 60 = .ok (.lstore 7, 2) := dk_55 7 (dk_at dksX6_dealsLess_2 13 rfl rfl)
theorem dX6_dealsLess_62 : decode cX6_dealsLess 62 = .ok (.lload 4, 2) := dk_22 4 (dk_at dksX6_dealsLess_2 15 rfl rfl)
theorem dX6_dealsLess_64 : decode cX6_dealsLess 64 = .ok (.aload_n 0, 1) := dk_42 (dk_at dksX6_dealsLess_2 17 rfl rfl)
theorem dX6_dealsLess_65 : decode cX6_dealsLess 65 = .ok (.getfield 13, 3) := dk_180 0 13 (dk_at dksX6_dealsLess_2 18 rfl rfl)
theorem dX6_dealsLess_68 : decode cX6_dealsLess 68 = .ok (.bipush 10, 2) := dk_16 10 (dk_at dksX6_dealsLess_2 21 rfl rfl)
theorem dX6_dealsLess_70 : decode cX6_dealsLess 70 = .ok (.iload 6, 2) := dk_21 6 (dk_at dksX6_dealsLess_3 0 rfl rfl)
theorem dX6_dealsLess_72 : decode cX6_dealsLess 72 = .ok (.iadd, 1) := dk_96 (dk_at dksX6_dealsLess_3 2 rfl rfl)
theorem dX6_dealsLess_73 : decode cX6_dealsLess 73 = .ok (.iaload, 1) := dk_46 (dk_at dksX6_dealsLess_3 3 rfl rfl)
theorem dX6_dealsLess_74 : decode cX6_dealsLess 74 = .ok (.i2l, 1) := dk_133 (dk_at dksX6_dealsLess_3 4 rfl rfl)
theorem dX6_dealsLess_75 : decode cX6_dealsLess 75 = .ok (.lload 7, 2) := dk_22 7 (dk_at dksX6_dealsLess_3 5 rfl rfl)
theorem dX6_dealsLess_77 : decode cX6_dealsLess 77 = .ok (.lmul, 1) := dk_105 (dk_at dksX6_dealsLess_3 7 rfl rfl)
theorem dX6_dealsLess_78 : decode cX6_dealsLess 78 = .ok (.ladd, 1) := dk_97 (dk_at dksX6_dealsLess_3 8 rfl rfl)
theorem dX6_dealsLess_79 : decode cX6_dealsLess 79 = .ok (.lstore 4, 2) := dk_55 4 (dk_at dksX6_dealsLess_3 9 rfl rfl)
theorem dX6_dealsLess_81 : decode cX6_dealsLess 81 = .ok (.iinc 6 1, 3) := dk_132 6 1 (dk_at dksX6_dealsLess_3 11 rfl rfl)
theorem dX6_dealsLess_84 : decode cX6_dealsLess 84 = .ok (.goto (-70), 3) := dk_167 255 186 (dk_at dksX6_dealsLess_3 14 rfl rfl)
theorem dX6_dealsLess_87 : decode cX6_dealsLess 87 = .ok (.aload_n 0, 1) := dk_42 (dk_at dksX6_dealsLess_3 17 rfl rfl)
theorem dX6_dealsLess_88 : decode cX6_dealsLess 88 = .ok (.getfield 60, 3) := dk_180 0 60 (dk_at dksX6_dealsLess_3 18 rfl rfl)
theorem dX6_dealsLess_91 : decode cX6_dealsLess 91 = .ok (.iload_n 3, 1) := dk_29 (dk_at dksX6_dealsLess_3 21 rfl rfl)
theorem dX6_dealsLess_92 : decode cX6_dealsLess 92 = .ok (.lload 4, 2) := dk_22 4 (dk_at dksX6_dealsLess_3 22 rfl rfl)
theorem dX6_dealsLess_94 : decode cX6_dealsLess 94 = .ok (.aload_n 0, 1) := dk_42 (dk_at dksX6_dealsLess_4 0 rfl rfl)
theorem dX6_dealsLess_95 : decode cX6_dealsLess 95 = .ok (.invokevirtual 278, 3) := dk_182 1 22 (dk_at dksX6_dealsLess_4 1 rfl rfl)
theorem dX6_dealsLess_98 : decode cX6_dealsLess 98 = .ok (.i2l, 1) := dk_133 (dk_at dksX6_dealsLess_4 4 rfl rfl)
theorem dX6_dealsLess_99 : decode cX6_dealsLess 99 = .ok (.ldiv, 1) := dk_109 (dk_at dksX6_dealsLess_4 5 rfl rfl)
theorem dX6_dealsLess_100 : decode cX6_dealsLess 100 = .ok (.lastore, 1) := dk_80 (dk_at dksX6_dealsLess_4 6 rfl rfl)
theorem dX6_dealsLess_101 : decode cX6_dealsLess 101 = .ok (.iinc 3 1, 3) := dk_132 3 1 (dk_at dksX6_dealsLess_4 7 rfl rfl)
theorem dX6_dealsLess_104 : decode cX6_dealsLess 104 = .ok (.goto (-102), 3) := dk_167 255 154 (dk_at dksX6_dealsLess_4 10 rfl rfl)
theorem dX6_dealsLess_107 : decode cX6_dealsLess 107 = .ok (.iconst 0, 1) := dk_3 (dk_at dksX6_dealsLess_4 13 rfl rfl)
theorem dX6_dealsLess_108 : decode cX6_dealsLess 108 = .ok (.istore_n 3, 1) := dk_62 (dk_at dksX6_dealsLess_4 14 rfl rfl)
theorem dX6_dealsLess_109 : decode cX6_dealsLess 109 = .ok (.iload_n 3, 1) := dk_29 (dk_at dksX6_dealsLess_4 15 rfl rfl)
theorem dX6_dealsLess_110 : decode cX6_dealsLess 110 = .ok (.bipush 24, 2) := dk_16 24 (dk_at dksX6_dealsLess_4 16 rfl rfl)
theorem dX6_dealsLess_112 : decode cX6_dealsLess 112 = .ok (.if_icmp .gt 21, 3) := dk_163 0 21 (dk_at dksX6_dealsLess_4 18 rfl rfl)
theorem dX6_dealsLess_115 : decode cX6_dealsLess 115 = .ok (.aload_n 0, 1) := dk_42 (dk_at dksX6_dealsLess_4 21 rfl rfl)
theorem dX6_dealsLess_116 : decode cX6_dealsLess 116 = .ok (.getfield 56, 3) := dk_180 0 56 (dk_at dksX6_dealsLess_5 0 rfl rfl)
theorem dX6_dealsLess_119 : decode cX6_dealsLess 119 = .ok (.iload_n 3, 1) := dk_29 (dk_at dksX6_dealsLess_5 3 rfl rfl)
theorem dX6_dealsLess_120 : decode cX6_dealsLess 120 = .ok (.aload_n 0, 1) := dk_42 (dk_at dksX6_dealsLess_5 4 rfl rfl)
theorem dX6_dealsLess_121 : decode cX6_dealsLess 121 = .ok (.getfield 60, 3) := dk_180 0 60 (dk_at dksX6_dealsLess_5 5 rfl rfl)
theorem dX6_dealsLess_124 : decode cX6_dealsLess 124 = .ok (.iload_n 3, 1) := dk_29 (dk_at dksX6_dealsLess_5 8 rfl rfl)
theorem dX6_dealsLess_125 : decode cX6_dealsLess 125 = .ok (.laload, 1) := dk_47 (dk_at dksX6_dealsLess_5 9 rfl rfl)
theorem dX6_dealsLess_126 : decode cX6_dealsLess 126 = .ok (.lastore, 1) := dk_80 (dk_at dksX6_dealsLess_5 10 rfl rfl)
theorem dX6_dealsLess_127 : decode cX6_dealsLess 127 = .ok (.iinc 3 1, 3) := dk_132 3 1 (dk_at dksX6_dealsLess_5 11 rfl rfl)
theorem dX6_dealsLess_130 : decode cX6_dealsLess 130 = .ok (.goto (-21), 3) := dk_167 255 235 (dk_at dksX6_dealsLess_5 14 rfl rfl)
theorem dX6_dealsLess_133 : decode cX6_dealsLess 133 = .ok (.return_, 1) := dk_177 (dk_at dksX6_dealsLess_5 17 rfl rfl)
abbrev cX6_keeping : ByteArray := prog_17_method_57_code
def yX6_keeping : MethodName := ⟨RX6, "keeping", "(III)J"⟩
def dkwX6_keeping_1 : List UInt8 := [162, 0, 9, 27, 4, 96, 167, 0, 5, 16, 24, 47, 105, 20, 1, 31, 109, 97, 173]
abbrev dktX6_keeping_1 : List UInt8 := dkwX6_keeping_1 ++ []
def dkwX6_keeping_0 : List UInt8 := [20, 1, 31, 42, 180, 0, 13, 3, 46, 133, 105, 28, 133, 105, 29, 133, 42, 180, 0, 56, 27, 16, 24]
abbrev dktX6_keeping_0 : List UInt8 := dkwX6_keeping_0 ++ dktX6_keeping_1
theorem dksX6_keeping_0 : cX6_keeping.data.toList.drop 0 = dktX6_keeping_0 := by decide +kernel
theorem dksX6_keeping_1 : cX6_keeping.data.toList.drop 23 = dktX6_keeping_1 := dk_seg dksX6_keeping_0 23 rfl rfl
theorem dX6_keeping_0 : decode cX6_keeping 0 = .ok (.ldc2_w 287, 3) := dk_20 1 31 (dk_at dksX6_keeping_0 0 rfl rfl)
theorem dX6_keeping_3 : decode cX6_keeping 3 = .ok (.aload_n 0, 1) := dk_42 (dk_at dksX6_keeping_0 3 rfl rfl)
theorem dX6_keeping_4 : decode cX6_keeping 4 = .ok (.getfield 13, 3) := dk_180 0 13 (dk_at dksX6_keeping_0 4 rfl rfl)
theorem dX6_keeping_7 : decode cX6_keeping 7 = .ok (.iconst 0, 1) := dk_3 (dk_at dksX6_keeping_0 7 rfl rfl)
theorem dX6_keeping_8 : decode cX6_keeping 8 = .ok (.iaload, 1) := dk_46 (dk_at dksX6_keeping_0 8 rfl rfl)
theorem dX6_keeping_9 : decode cX6_keeping 9 = .ok (.i2l, 1) := dk_133 (dk_at dksX6_keeping_0 9 rfl rfl)
theorem dX6_keeping_10 : decode cX6_keeping 10 = .ok (.lmul, 1) := dk_105 (dk_at dksX6_keeping_0 10 rfl rfl)
theorem dX6_keeping_11 : decode cX6_keeping 11 = .ok (.iload_n 2, 1) := dk_28 (dk_at dksX6_keeping_0 11 rfl rfl)
theorem dX6_keeping_12 : decode cX6_keeping 12 = .ok (.i2l, 1) := dk_133 (dk_at dksX6_keeping_0 12 rfl rfl)
theorem dX6_keeping_13 : decode cX6_keeping 13 = .ok (.lmul, 1) := dk_105 (dk_at dksX6_keeping_0 13 rfl rfl)
theorem dX6_keeping_14 : decode cX6_keeping 14 = .ok (.iload_n 3, 1) := dk_29 (dk_at dksX6_keeping_0 14 rfl rfl)
theorem dX6_keeping_15 : decode cX6_keeping 15 = .ok (.i2l, 1) := dk_133 (dk_at dksX6_keeping_0 15 rfl rfl)
theorem dX6_keeping_16 : decode cX6_keeping 16 = .ok (.aload_n 0, 1) := dk_42 (dk_at dksX6_keeping_0 16 rfl rfl)
theorem dX6_keeping_17 : decode cX6_keeping 17 = .ok (.getfield 56, 3) := dk_180 0 56 (dk_at dksX6_keeping_0 17 rfl rfl)
theorem dX6_keeping_20 : decode cX6_keeping 20 = .ok (.iload_n 1, 1) := dk_27 (dk_at dksX6_keeping_0 20 rfl rfl)
theorem dX6_keeping_21 : decode cX6_keeping 21 = .ok (.bipush 24, 2) := dk_16 24 (dk_at dksX6_keeping_0 21 rfl rfl)
theorem dX6_keeping_23 : decode cX6_keeping 23 = .ok (.if_icmp .ge 9, 3) := dk_162 0 9 (dk_at dksX6_keeping_1 0 rfl rfl)
theorem dX6_keeping_26 : decode cX6_keeping 26 = .ok (.iload_n 1, 1) := dk_27 (dk_at dksX6_keeping_1 3 rfl rfl)
theorem dX6_keeping_27 : decode cX6_keeping 27 = .ok (.iconst 1, 1) := dk_4 (dk_at dksX6_keeping_1 4 rfl rfl)
theorem dX6_keeping_28 : decode cX6_keeping 28 = .ok (.iadd, 1) := dk_96 (dk_at dksX6_keeping_1 5 rfl rfl)
theorem dX6_keeping_29 : decode cX6_keeping 29 = .ok (.goto 5, 3) := dk_167 0 5 (dk_at dksX6_keeping_1 6 rfl rfl)
theorem dX6_keeping_32 : decode cX6_keeping 32 = .ok (.bipush 24, 2) := dk_16 24 (dk_at dksX6_keeping_1 9 rfl rfl)
theorem dX6_keeping_34 : decode cX6_keeping 34 = .ok (.laload, 1) := dk_47 (dk_at dksX6_keeping_1 11 rfl rfl)
theorem dX6_keeping_35 : decode cX6_keeping 35 = .ok (.lmul, 1) := dk_105 (dk_at dksX6_keeping_1 12 rfl rfl)
theorem dX6_keeping_36 : decode cX6_keeping 36 = .ok (.ldc2_w 287, 3) := dk_20 1 31 (dk_at dksX6_keeping_1 13 rfl rfl)
theorem dX6_keeping_39 : decode cX6_keeping 39 = .ok (.ldiv, 1) := dk_109 (dk_at dksX6_keeping_1 16 rfl rfl)
theorem dX6_keeping_40 : decode cX6_keeping 40 = .ok (.ladd, 1) := dk_97 (dk_at dksX6_keeping_1 17 rfl rfl)
theorem dX6_keeping_41 : decode cX6_keeping 41 = .ok (.lreturn, 1) := dk_173 (dk_at dksX6_keeping_1 18 rfl rfl)
abbrev cX6_breaking : ByteArray := prog_17_method_58_code
def yX6_breaking : MethodName := ⟨RX6, "breaking", "(IIII)J"⟩
def dkwX6_breaking_1 : List UInt8 := [47, 105, 20, 1, 31, 109, 97, 173]
abbrev dktX6_breaking_1 : List UInt8 := dkwX6_breaking_1 ++ []
def dkwX6_breaking_0 : List UInt8 := [20, 1, 31, 42, 180, 0, 13, 4, 46, 133, 105, 29, 133, 105, 21, 4, 133, 42, 180, 0, 56, 27, 28, 100]
abbrev dktX6_breaking_0 : List UInt8 := dkwX6_breaking_0 ++ dktX6_breaking_1
theorem dksX6_breaking_0 : cX6_breaking.data.toList.drop 0 = dktX6_breaking_0 := by decide +kernel
theorem dksX6_breaking_1 : cX6_breaking.data.toList.drop 24 = dktX6_breaking_1 := dk_seg dksX6_breaking_0 24 rfl rfl
theorem dX6_breaking_0 : decode cX6_breaking 0 = .ok (.ldc2_w 287, 3) := dk_20 1 31 (dk_at dksX6_breaking_0 0 rfl rfl)
theorem dX6_breaking_3 : decode cX6_breaking 3 = .ok (.aload_n 0, 1) := dk_42 (dk_at dksX6_breaking_0 3 rfl rfl)
theorem dX6_breaking_4 : decode cX6_breaking 4 = .ok (.getfield 13, 3) := dk_180 0 13 (dk_at dksX6_breaking_0 4 rfl rfl)
theorem dX6_breaking_7 : decode cX6_breaking 7 = .ok (.iconst 1, 1) := dk_4 (dk_at dksX6_breaking_0 7 rfl rfl)
theorem dX6_breaking_8 : decode cX6_breaking 8 = .ok (.iaload, 1) := dk_46 (dk_at dksX6_breaking_0 8 rfl rfl)
theorem dX6_breaking_9 : decode cX6_breaking 9 = .ok (.i2l, 1) := dk_133 (dk_at dksX6_breaking_0 9 rfl rfl)
theorem dX6_breaking_10 : decode cX6_breaking 10 = .ok (.lmul, 1) := dk_105 (dk_at dksX6_breaking_0 10 rfl rfl)
theorem dX6_breaking_11 : decode cX6_breaking 11 = .ok (.iload_n 3, 1) := dk_29 (dk_at dksX6_breaking_0 11 rfl rfl)
theorem dX6_breaking_12 : decode cX6_breaking 12 = .ok (.i2l, 1) := dk_133 (dk_at dksX6_breaking_0 12 rfl rfl)
theorem dX6_breaking_13 : decode cX6_breaking 13 = .ok (.lmul, 1) := dk_105 (dk_at dksX6_breaking_0 13 rfl rfl)
theorem dX6_breaking_14 : decode cX6_breaking 14 = .ok (.iload 4, 2) := dk_21 4 (dk_at dksX6_breaking_0 14 rfl rfl)
theorem dX6_breaking_16 : decode cX6_breaking 16 = .ok (.i2l, 1) := dk_133 (dk_at dksX6_breaking_0 16 rfl rfl)
theorem dX6_breaking_17 : decode cX6_breaking 17 = .ok (.aload_n 0, 1) := dk_42 (dk_at dksX6_breaking_0 17 rfl rfl)
theorem dX6_breaking_18 : decode cX6_breaking 18 = .ok (.getfield 56, 3) := dk_180 0 56 (dk_at dksX6_breaking_0 18 rfl rfl)
theorem dX6_breaking_21 : decode cX6_breaking 21 = .ok (.iload_n 1, 1) := dk_27 (dk_at dksX6_breaking_0 21 rfl rfl)
theorem dX6_breaking_22 : decode cX6_breaking 22 = .ok (.iload_n 2, 1) := dk_28 (dk_at dksX6_breaking_0 22 rfl rfl)
theorem dX6_breaking_23 : decode cX6_breaking 23 = .ok (.isub, 1) := dk_100 (dk_at dksX6_breaking_0 23 rfl rfl)
theorem dX6_breaking_24 : decode cX6_breaking 24 = .ok (.laload, 1) := dk_47 (dk_at dksX6_breaking_1 0 rfl rfl)
theorem dX6_breaking_25 : decode cX6_breaking 25 = .ok (.lmul, 1) := dk_105 (dk_at dksX6_breaking_1 1 rfl rfl)
theorem dX6_breaking_26 : decode cX6_breaking 26 = .ok (.ldc2_w 287, 3) := dk_20 1 31 (dk_at dksX6_breaking_1 2 rfl rfl)
theorem dX6_breaking_29 : decode cX6_breaking 29 = .ok (.ldiv, 1) := dk_109 (dk_at dksX6_breaking_1 5 rfl rfl)
theorem dX6_breaking_30 : decode cX6_breaking 30 = .ok (.ladd, 1) := dk_97 (dk_at dksX6_breaking_1 6 rfl rfl)
theorem dX6_breaking_31 : decode cX6_breaking 31 = .ok (.lreturn, 1) := dk_173 (dk_at dksX6_breaking_1 7 rfl rfl)
abbrev cX6_edgeOf : ByteArray := prog_17_method_61_code
def yX6_edgeOf : MethodName := ⟨RX6, "edgeOf", "(III)I"⟩
def dkwX6_edgeOf_1 : List UInt8 := [42, 27, 21, 4, 29, 182, 1, 33, 148, 158, 0, 6, 21, 4, 172, 132, 4, 1, 167, 255, 217, 2, 172]
abbrev dktX6_edgeOf_1 : List UInt8 := dkwX6_edgeOf_1 ++ []
def dkwX6_edgeOf_0 : List UInt8 := [4, 54, 4, 21, 4, 16, 12, 163, 0, 38, 27, 28, 161, 0, 33, 42, 27, 28, 21, 4, 29, 182, 1, 37]
abbrev dktX6_edgeOf_0 : List UInt8 := dkwX6_edgeOf_0 ++ dktX6_edgeOf_1
theorem dksX6_edgeOf_0 : cX6_edgeOf.data.toList.drop 0 = dktX6_edgeOf_0 := by decide +kernel
theorem dksX6_edgeOf_1 : cX6_edgeOf.data.toList.drop 24 = dktX6_edgeOf_1 := dk_seg dksX6_edgeOf_0 24 rfl rfl
theorem dX6_edgeOf_0 : decode cX6_edgeOf 0 = .ok (.iconst 1, 1) := dk_4 (dk_at dksX6_edgeOf_0 0 rfl rfl)
theorem dX6_edgeOf_1 : decode cX6_edgeOf 1 = .ok (.istore 4, 2) := dk_54 4 (dk_at dksX6_edgeOf_0 1 rfl rfl)
theorem dX6_edgeOf_3 : decode cX6_edgeOf 3 = .ok (.iload 4, 2) := dk_21 4 (dk_at dksX6_edgeOf_0 3 rfl rfl)
theorem dX6_edgeOf_5 : decode cX6_edgeOf 5 = .ok (.bipush 12, 2) := dk_16 12 (dk_at dksX6_edgeOf_0 5 rfl rfl)
theorem dX6_edgeOf_7 : decode cX6_edgeOf 7 = .ok (.if_icmp .gt 38, 3) := dk_163 0 38 (dk_at dksX6_edgeOf_0 7 rfl rfl)
theorem dX6_edgeOf_10 : decode cX6_edgeOf 10 = .ok (.iload_n 1, 1) := dk_27 (dk_at dksX6_edgeOf_0 10 rfl rfl)
theorem dX6_edgeOf_11 : decode cX6_edgeOf 11 = .ok (.iload_n 2, 1) := dk_28 (dk_at dksX6_edgeOf_0 11 rfl rfl)
theorem dX6_edgeOf_12 : decode cX6_edgeOf 12 = .ok (.if_icmp .lt 33, 3) := dk_161 0 33 (dk_at dksX6_edgeOf_0 12 rfl rfl)
theorem dX6_edgeOf_15 : decode cX6_edgeOf 15 = .ok (.aload_n 0, 1) := dk_42 (dk_at dksX6_edgeOf_0 15 rfl rfl)
theorem dX6_edgeOf_16 : decode cX6_edgeOf 16 = .ok (.iload_n 1, 1) := dk_27 (dk_at dksX6_edgeOf_0 16 rfl rfl)
theorem dX6_edgeOf_17 : decode cX6_edgeOf 17 = .ok (.iload_n 2, 1) := dk_28 (dk_at dksX6_edgeOf_0 17 rfl rfl)
theorem dX6_edgeOf_18 : decode cX6_edgeOf 18 = .ok (.iload 4, 2) := dk_21 4 (dk_at dksX6_edgeOf_0 18 rfl rfl)
theorem dX6_edgeOf_20 : decode cX6_edgeOf 20 = .ok (.iload_n 3, 1) := dk_29 (dk_at dksX6_edgeOf_0 20 rfl rfl)
theorem dX6_edgeOf_21 : decode cX6_edgeOf 21 = .ok (.invokevirtual 293, 3) := dk_182 1 37 (dk_at dksX6_edgeOf_0 21 rfl rfl)
theorem dX6_edgeOf_24 : decode cX6_edgeOf 24 = .ok (.aload_n 0, 1) := dk_42 (dk_at dksX6_edgeOf_1 0 rfl rfl)
theorem dX6_edgeOf_25 : decode cX6_edgeOf 25 = .ok (.iload_n 1, 1) := dk_27 (dk_at dksX6_edgeOf_1 1 rfl rfl)
theorem dX6_edgeOf_26 : decode cX6_edgeOf 26 = .ok (.iload 4, 2) := dk_21 4 (dk_at dksX6_edgeOf_1 2 rfl rfl)
theorem dX6_edgeOf_28 : decode cX6_edgeOf 28 = .ok (.iload_n 3, 1) := dk_29 (dk_at dksX6_edgeOf_1 4 rfl rfl)
theorem dX6_edgeOf_29 : decode cX6_edgeOf 29 = .ok (.invokevirtual 289, 3) := dk_182 1 33 (dk_at dksX6_edgeOf_1 5 rfl rfl)
theorem dX6_edgeOf_32 : decode cX6_edgeOf 32 = .ok (.lcmp, 1) := dk_148 (dk_at dksX6_edgeOf_1 8 rfl rfl)
theorem dX6_edgeOf_33 : decode cX6_edgeOf 33 = .ok (.ifCond .le 6, 3) := dk_158 0 6 (dk_at dksX6_edgeOf_1 9 rfl rfl)
theorem dX6_edgeOf_36 : decode cX6_edgeOf 36 = .ok (.iload 4, 2) := dk_21 4 (dk_at dksX6_edgeOf_1 12 rfl rfl)
theorem dX6_edgeOf_38 : decode cX6_edgeOf 38 = .ok (.ireturn, 1) := dk_172 (dk_at dksX6_edgeOf_1 14 rfl rfl)
theorem dX6_edgeOf_39 : decode cX6_edgeOf 39 = .ok (.iinc 4 1, 3) := dk_132 4 1 (dk_at dksX6_edgeOf_1 15 rfl rfl)
theorem dX6_edgeOf_42 : decode cX6_edgeOf 42 = .ok (.goto (-39), 3) := dk_167 255 217 (dk_at dksX6_edgeOf_1 18 rfl rfl)
theorem dX6_edgeOf_45 : decode cX6_edgeOf 45 = .ok (.iconst (-1), 1) := dk_2 (dk_at dksX6_edgeOf_1 21 rfl rfl)
theorem dX6_edgeOf_46 : decode cX6_edgeOf 46 = .ok (.ireturn, 1) := dk_172 (dk_at dksX6_edgeOf_1 22 rfl rfl)
abbrev cX6_longer : ByteArray := prog_17_method_66_code
def yX6_longer : MethodName := ⟨RX6, "longer", "(IIII)J"⟩
def dkwX6_longer_7 : List UInt8 := [167, 255, 201, 21, 5, 133, 173]
abbrev dktX6_longer_7 : List UInt8 := dkwX6_longer_7 ++ []
def dkwX6_longer_6 : List UInt8 := [148, 157, 0, 6, 167, 0, 17, 21, 8, 54, 5, 42, 180, 1, 56, 20, 1, 79, 109, 55, 6, 132, 8, 1]
abbrev dktX6_longer_6 : List UInt8 := dkwX6_longer_6 ++ dktX6_longer_7
def dkwX6_longer_5 : List UInt8 := [42, 21, 8, 28, 29, 182, 1, 76, 21, 5, 2, 159, 0, 20, 42, 180, 1, 56, 20, 1, 79, 109, 22, 6]
abbrev dktX6_longer_5 : List UInt8 := dkwX6_longer_5 ++ dktX6_longer_6
def dkwX6_longer_4 : List UInt8 := [180, 1, 56, 20, 1, 79, 109, 173, 2, 54, 5, 9, 55, 6, 4, 54, 8, 21, 8, 16, 13, 163, 0, 54]
abbrev dktX6_longer_4 : List UInt8 := dkwX6_longer_4 ++ dktX6_longer_5
def dkwX6_longer_3 : List UInt8 := [20, 1, 74, 173, 42, 27, 28, 29, 182, 1, 76, 21, 4, 154, 0, 10, 42, 180, 1, 52, 167, 0, 11, 42]
abbrev dktX6_longer_3 : List UInt8 := dkwX6_longer_3 ++ dktX6_longer_4
def dkwX6_longer_2 : List UInt8 := [154, 0, 7, 20, 1, 74, 173, 27, 2, 159, 0, 46, 42, 21, 4, 3, 4, 182, 0, 109, 154, 0, 7]
abbrev dktX6_longer_2 : List UInt8 := dkwX6_longer_2 ++ dktX6_longer_3
def dkwX6_longer_1 : List UInt8 := [16, 9, 182, 0, 109, 153, 0, 22, 42, 29, 4, 17, 0, 200, 182, 0, 109, 153, 0, 10, 42, 182, 1, 22]
abbrev dktX6_longer_1 : List UInt8 := dkwX6_longer_1 ++ dktX6_longer_2
def dkwX6_longer_0 : List UInt8 := [42, 3, 181, 0, 90, 42, 27, 4, 16, 13, 182, 0, 109, 154, 0, 8, 27, 2, 160, 0, 33, 42, 28, 4]
abbrev dktX6_longer_0 : List UInt8 := dkwX6_longer_0 ++ dktX6_longer_1
theorem dksX6_longer_0 : cX6_longer.data.toList.drop 0 = dktX6_longer_0 := by decide +kernel
theorem dksX6_longer_1 : cX6_longer.data.toList.drop 24 = dktX6_longer_1 := dk_seg dksX6_longer_0 24 rfl rfl
theorem dksX6_longer_2 : cX6_longer.data.toList.drop 48 = dktX6_longer_2 := dk_seg dksX6_longer_1 24 rfl rfl
theorem dksX6_longer_3 : cX6_longer.data.toList.drop 71 = dktX6_longer_3 := dk_seg dksX6_longer_2 23 rfl rfl
theorem dksX6_longer_4 : cX6_longer.data.toList.drop 95 = dktX6_longer_4 := dk_seg dksX6_longer_3 24 rfl rfl
theorem dksX6_longer_5 : cX6_longer.data.toList.drop 119 = dktX6_longer_5 := dk_seg dksX6_longer_4 24 rfl rfl
theorem dksX6_longer_6 : cX6_longer.data.toList.drop 143 = dktX6_longer_6 := dk_seg dksX6_longer_5 24 rfl rfl
theorem dksX6_longer_7 : cX6_longer.data.toList.drop 167 = dktX6_longer_7 := dk_seg dksX6_longer_6 24 rfl rfl
theorem dX6_longer_0 : decode cX6_longer 0 = .ok (.aload_n 0, 1) := dk_42 (dk_at dksX6_longer_0 0 rfl rfl)
theorem dX6_longer_1 : decode cX6_longer 1 = .ok (.iconst 0, 1) := dk_3 (dk_at dksX6_longer_0 1 rfl rfl)
theorem dX6_longer_2 : decode cX6_longer 2 = .ok (.putfield 90, 3) := dk_181 0 90 (dk_at dksX6_longer_0 2 rfl rfl)
theorem dX6_longer_5 : decode cX6_longer 5 = .ok (.aload_n 0, 1) := dk_42 (dk_at dksX6_longer_0 5 rfl rfl)
theorem dX6_longer_6 : decode cX6_longer 6 = .ok (.iload_n 1, 1) := dk_27 (dk_at dksX6_longer_0 6 rfl rfl)
theorem dX6_longer_7 : decode cX6_longer 7 = .ok (.iconst 1, 1) := dk_4 (dk_at dksX6_longer_0 7 rfl rfl)
theorem dX6_longer_8 : decode cX6_longer 8 = .ok (.bipush 13, 2) := dk_16 13 (dk_at dksX6_longer_0 8 rfl rfl)
theorem dX6_longer_10 : decode cX6_longer 10 = .ok (.invokevirtual 109, 3) := dk_182 0 109 (dk_at dksX6_longer_0 10 rfl rfl)
theorem dX6_longer_13 : decode cX6_longer 13 = .ok (.ifCond .ne 8, 3) := dk_154 0 8 (dk_at dksX6_longer_0 13 rfl rfl)
theorem dX6_longer_16 : decode cX6_longer 16 = .ok (.iload_n 1, 1) := dk_27 (dk_at dksX6_longer_0 16 rfl rfl)
theorem dX6_longer_17 : decode cX6_longer 17 = .ok (.iconst (-1), 1) := dk_2 (dk_at dksX6_longer_0 17 rfl rfl)
theorem dX6_longer_18 : decode cX6_longer 18 = .ok (.if_icmp .ne 33, 3) := dk_160 0 33 (dk_at dksX6_longer_0 18 rfl rfl)
theorem dX6_longer_21 : decode cX6_longer 21 = .ok (.aload_n 0, 1) := dk_42 (dk_at dksX6_longer_0 21 rfl rfl)
theorem dX6_longer_22 : decode cX6_longer 22 = .ok (.iload_n 2, 1) := dk_28 (dk_at dksX6_longer_0 22 rfl rfl)
theorem dX6_longer_23 : decode cX6_longer 23 = .ok (.iconst 1, 1) := dk_4 (dk_at dksX6_longer_0 23 rfl rfl)
theorem dX6_longer_24 : decode cX6_longer 24 = .ok (.bipush 9, 2) := dk_16 9 (dk_at dksX6_longer_1 0 rfl rfl)
theorem dX6_longer_26 : decode cX6_longer 26 = .ok (.invokevirtual 109, 3) := dk_182 0 109 (dk_at dksX6_longer_1 2 rfl rfl)
theorem dX6_longer_29 : decode cX6_longer 29 = .ok (.ifCond .eq 22, 3) := dk_153 0 22 (dk_at dksX6_longer_1 5 rfl rfl)
theorem dX6_longer_32 : decode cX6_longer 32 = .ok (.aload_n 0, 1) := dk_42 (dk_at dksX6_longer_1 8 rfl rfl)
theorem dX6_longer_33 : decode cX6_longer 33 = .ok (.iload_n 3, 1) := dk_29 (dk_at dksX6_longer_1 9 rfl rfl)
theorem dX6_longer_34 : decode cX6_longer 34 = .ok (.iconst 1, 1) := dk_4 (dk_at dksX6_longer_1 10 rfl rfl)
theorem dX6_longer_35 : decode cX6_longer 35 = .ok (.sipush 200, 3) := dk_17 0 200 (dk_at dksX6_longer_1 11 rfl rfl)
theorem dX6_longer_38 : decode cX6_longer 38 = .ok (.invokevirtual 109, 3) := dk_182 0 109 (dk_at dksX6_longer_1 14 rfl rfl)
theorem dX6_longer_41 : decode cX6_longer 41 = .ok (.ifCond .eq 10, 3) := dk_153 0 10 (dk_at dksX6_longer_1 17 rfl rfl)
theorem dX6_longer_44 : decode cX6_longer 44 = .ok (.aload_n 0, 1) := dk_42 (dk_at dksX6_longer_1 20 rfl rfl)
theorem dX6_longer_45 : decode cX6_longer 45 = .ok (.invokevirtual 278, 3) := dk_182 1 22 (dk_at dksX6_longer_1 21 rfl rfl)
theorem dX6_longer_48 : decode cX6_longer 48 = .ok (.ifCond .ne 7, 3) := dk_154 0 7 (dk_at dksX6_longer_2 0 rfl rfl)
theorem dX6_longer_51 : decode cX6_longer 51 = .ok (.ldc2_w 330, 3) := dk_20 1 74 (dk_at dksX6_longer_2 3 rfl rfl)
theorem dX6_longer_54 : decode cX6_longer 54 = .ok (.lreturn, 1) := dk_173 (dk_at dksX6_longer_2 6 rfl rfl)
theorem dX6_longer_55 : decode cX6_longer 55 = .ok (.iload_n 1, 1) := dk_27 (dk_at dksX6_longer_2 7 rfl rfl)
theorem dX6_longer_56 : decode cX6_longer 56 = .ok (.iconst (-1), 1) := dk_2 (dk_at dksX6_longer_2 8 rfl rfl)
theorem dX6_longer_57 : decode cX6_longer 57 = .ok (.if_icmp .eq 46, 3) := dk_159 0 46 (dk_at dksX6_longer_2 9 rfl rfl)
theorem dX6_longer_60 : decode cX6_longer 60 = .ok (.aload_n 0, 1) := dk_42 (dk_at dksX6_longer_2 12 rfl rfl)
theorem dX6_longer_61 : decode cX6_longer 61 = .ok (.iload 4, 2) := dk_21 4 (dk_at dksX6_longer_2 13 rfl rfl)
theorem dX6_longer_63 : decode cX6_longer 63 = .ok (.iconst 0, 1) := dk_3 (dk_at dksX6_longer_2 15 rfl rfl)
theorem dX6_longer_64 : decode cX6_longer 64 = .ok (.iconst 1, 1) := dk_4 (dk_at dksX6_longer_2 16 rfl rfl)
theorem dX6_longer_65 : decode cX6_longer 65 = .ok (.invokevirtual 109, 3) := dk_182 0 109 (dk_at dksX6_longer_2 17 rfl rfl)
theorem dX6_longer_68 : decode cX6_longer 68 = .ok (.ifCond .ne 7, 3) := dk_154 0 7 (dk_at dksX6_longer_2 20 rfl rfl)
theorem dX6_longer_71 : decode cX6_longer 71 = .ok (.ldc2_w 330, 3) := dk_20 1 74 (dk_at dksX6_longer_3 0 rfl rfl)
theorem dX6_longer_74 : decode cX6_longer 74 = .ok (.lreturn, 1) := dk_173 (dk_at dksX6_longer_3 3 rfl rfl)
theorem dX6_longer_75 : decode cX6_longer 75 = .ok (.aload_n 0, 1) := dk_42 (dk_at dksX6_longer_3 4 rfl rfl)
theorem dX6_longer_76 : decode cX6_longer 76 = .ok (.iload_n 1, 1) := dk_27 (dk_at dksX6_longer_3 5 rfl rfl)
theorem dX6_longer_77 : decode cX6_longer 77 = .ok (.iload_n 2, 1) := dk_28 (dk_at dksX6_longer_3 6 rfl rfl)
theorem dX6_longer_78 : decode cX6_longer 78 = .ok (.iload_n 3, 1) := dk_29 (dk_at dksX6_longer_3 7 rfl rfl)
theorem dX6_longer_79 : decode cX6_longer 79 = .ok (.invokevirtual 332, 3) := dk_182 1 76 (dk_at dksX6_longer_3 8 rfl rfl)
theorem dX6_longer_82 : decode cX6_longer 82 = .ok (.iload 4, 2) := dk_21 4 (dk_at dksX6_longer_3 11 rfl rfl)
theorem dX6_longer_84 : decode cX6_longer 84 = .ok (.ifCond .ne 10, 3) := dk_154 0 10 (dk_at dksX6_longer_3 13 rfl rfl)
theorem dX6_longer_87 : decode cX6_longer 87 = .ok (.aload_n 0, 1) := dk_42 (dk_at dksX6_longer_3 16 rfl rfl)
theorem dX6_longer_88 : decode cX6_longer 88 = .ok (.getfield 308, 3) := dk_180 1 52 (dk_at dksX6_longer_3 17 rfl rfl)
theorem dX6_longer_91 : decode cX6_longer 91 = .ok (.goto 11, 3) := dk_167 0 11 (dk_at dksX6_longer_3 20 rfl rfl)
theorem dX6_longer_94 : decode cX6_longer 94 = .ok (.aload_n 0, 1) := dk_42 (dk_at dksX6_longer_3 23 rfl rfl)
theorem dX6_longer_95 : decode cX6_longer 95 = .ok (.getfield 312, 3) := dk_180 1 56 (dk_at dksX6_longer_4 0 rfl rfl)
theorem dX6_longer_98 : decode cX6_longer 98 = .ok (.ldc2_w 335, 3) := dk_20 1 79 (dk_at dksX6_longer_4 3 rfl rfl)
theorem dX6_longer_101 : decode cX6_longer 101 = .ok (.ldiv, 1) := dk_109 (dk_at dksX6_longer_4 6 rfl rfl)
theorem dX6_longer_102 : decode cX6_longer 102 = .ok (.lreturn, 1) := dk_173 (dk_at dksX6_longer_4 7 rfl rfl)
theorem dX6_longer_103 : decode cX6_longer 103 = .ok (.iconst (-1), 1) := dk_2 (dk_at dksX6_longer_4 8 rfl rfl)
theorem dX6_longer_104 : decode cX6_longer 104 = .ok (.istore 5, 2) := dk_54 5 (dk_at dksX6_longer_4 9 rfl rfl)
theorem dX6_longer_106 : decode cX6_longer 106 = .ok (.lconst 0, 1) := dk_9 (dk_at dksX6_longer_4 11 rfl rfl)
theorem dX6_longer_107 : decode cX6_longer 107 = .ok (.lstore 6, 2) := dk_55 6 (dk_at dksX6_longer_4 12 rfl rfl)
theorem dX6_longer_109 : decode cX6_longer 109 = .ok (.iconst 1, 1) := dk_4 (dk_at dksX6_longer_4 14 rfl rfl)
theorem dX6_longer_110 : decode cX6_longer 110 = .ok (.istore 8, 2) := dk_54 8 (dk_at dksX6_longer_4 15 rfl rfl)
theorem dX6_longer_112 : decode cX6_longer 112 = .ok (.iload 8, 2) := dk_21 8 (dk_at dksX6_longer_4 17 rfl rfl)
theorem dX6_longer_114 : decode cX6_longer 114 = .ok (.bipush 13, 2) := dk_16 13 (dk_at dksX6_longer_4 19 rfl rfl)
theorem dX6_longer_116 : decode cX6_longer 116 = .ok (.if_icmp .gt 54, 3) := dk_163 0 54 (dk_at dksX6_longer_4 21 rfl rfl)
theorem dX6_longer_119 : decode cX6_longer 119 = .ok (.aload_n 0, 1) := dk_42 (dk_at dksX6_longer_5 0 rfl rfl)
theorem dX6_longer_120 : decode cX6_longer 120 = .ok (.iload 8, 2) := dk_21 8 (dk_at dksX6_longer_5 1 rfl rfl)
theorem dX6_longer_122 : decode cX6_longer 122 = .ok (.iload_n 2, 1) := dk_28 (dk_at dksX6_longer_5 3 rfl rfl)
theorem dX6_longer_123 : decode cX6_longer 123 = .ok (.iload_n 3, 1) := dk_29 (dk_at dksX6_longer_5 4 rfl rfl)
theorem dX6_longer_124 : decode cX6_longer 124 = .ok (.invokevirtual 332, 3) := dk_182 1 76 (dk_at dksX6_longer_5 5 rfl rfl)
theorem dX6_longer_127 : decode cX6_longer 127 = .ok (.iload 5, 2) := dk_21 5 (dk_at dksX6_longer_5 8 rfl rfl)
theorem dX6_longer_129 : decode cX6_longer 129 = .ok (.iconst (-1), 1) := dk_2 (dk_at dksX6_longer_5 10 rfl rfl)
theorem dX6_longer_130 : decode cX6_longer 130 = .ok (.if_icmp .eq 20, 3) := dk_159 0 20 (dk_at dksX6_longer_5 11 rfl rfl)
theorem dX6_longer_133 : decode cX6_longer 133 = .ok (.aload_n 0, 1) := dk_42 (dk_at dksX6_longer_5 14 rfl rfl)
theorem dX6_longer_134 : decode cX6_longer 134 = .ok (.getfield 312, 3) := dk_180 1 56 (dk_at dksX6_longer_5 15 rfl rfl)
theorem dX6_longer_137 : decode cX6_longer 137 = .ok (.ldc2_w 335, 3) := dk_20 1 79 (dk_at dksX6_longer_5 18 rfl rfl)
theorem dX6_longer_140 : decode cX6_longer 140 = .ok (.ldiv, 1) := dk_109 (dk_at dksX6_longer_5 21 rfl rfl)
theorem dX6_longer_141 : decode cX6_longer 141 = .ok (.lload 6, 2) := dk_22 6 (dk_at dksX6_longer_5 22 rfl rfl)
theorem dX6_longer_143 : decode cX6_longer 143 = .ok (.lcmp, 1) := dk_148 (dk_at dksX6_longer_6 0 rfl rfl)
theorem dX6_longer_144 : decode cX6_longer 144 = .ok (.ifCond .gt 6, 3) := dk_157 0 6 (dk_at dksX6_longer_6 1 rfl rfl)
theorem dX6_longer_147 : decode cX6_longer 147 = .ok (.goto 17, 3) := dk_167 0 17 (dk_at dksX6_longer_6 4 rfl rfl)
theorem dX6_longer_150 : decode cX6_longer 150 = .ok (.iload 8, 2) := dk_21 8 (dk_at dksX6_longer_6 7 rfl rfl)
theorem dX6_longer_152 : decode cX6_longer 152 = .ok (.istore 5, 2) := dk_54 5 (dk_at dksX6_longer_6 9 rfl rfl)
theorem dX6_longer_154 : decode cX6_longer 154 = .ok (.aload_n 0, 1) := dk_42 (dk_at dksX6_longer_6 11 rfl rfl)
theorem dX6_longer_155 : decode cX6_longer 155 = .ok (.getfield 312, 3) := dk_180 1 56 (dk_at dksX6_longer_6 12 rfl rfl)
theorem dX6_longer_158 : decode cX6_longer 158 = .ok (.ldc2_w 335, 3) := dk_20 1 79 (dk_at dksX6_longer_6 15 rfl rfl)
theorem dX6_longer_161 : decode cX6_longer 161 = .ok (.ldiv, 1) := dk_109 (dk_at dksX6_longer_6 18 rfl rfl)
theorem dX6_longer_162 : decode cX6_longer 162 = .ok (.lstore 6, 2) := dk_55 6 (dk_at dksX6_longer_6 19 rfl rfl)
theorem dX6_longer_164 : decode cX6_longer 164 = .ok (.iinc 8 1, 3) := dk_132 8 1 (dk_at dksX6_longer_6 21 rfl rfl)
theorem dX6_longer_167 : decode cX6_longer 167 = .ok (.goto (-55), 3) := dk_167 255 201 (dk_at dksX6_longer_7 0 rfl rfl)
theorem dX6_longer_170 : decode cX6_longer 170 = .ok (.iload 5, 2) := dk_21 5 (dk_at dksX6_longer_7 3 rfl rfl)
theorem dX6_longer_172 : decode cX6_longer 172 = .ok (.i2l, 1) := dk_133 (dk_at dksX6_longer_7 5 rfl rfl)
theorem dX6_longer_173 : decode cX6_longer 173 = .ok (.lreturn, 1) := dk_173 (dk_at dksX6_longer_7 6 rfl rfl)
abbrev cX6_runs : ByteArray := prog_17_method_65_code
def yX6_runs : MethodName := ⟨RX6, "runs", "(III)V"⟩
def dkwX6_runs_2 : List UInt8 := [132, 4, 1, 167, 255, 241, 177]
abbrev dktX6_runs_2 : List UInt8 := dkwX6_runs_2 ++ []
def dkwX6_runs_1 : List UInt8 := [42, 180, 0, 63, 3, 20, 1, 69, 80, 3, 54, 4, 21, 4, 29, 162, 0, 15, 42, 27, 28, 182, 1, 71]
abbrev dktX6_runs_1 : List UInt8 := dkwX6_runs_1 ++ dktX6_runs_2
def dkwX6_runs_0 : List UInt8 := [3, 54, 4, 21, 4, 16, 24, 163, 0, 17, 42, 180, 0, 63, 21, 4, 9, 80, 132, 4, 1, 167, 255, 238]
abbrev dktX6_runs_0 : List UInt8 := dkwX6_runs_0 ++ dktX6_runs_1
theorem dksX6_runs_0 : cX6_runs.data.toList.drop 0 = dktX6_runs_0 := by decide +kernel
theorem dksX6_runs_1 : cX6_runs.data.toList.drop 24 = dktX6_runs_1 := dk_seg dksX6_runs_0 24 rfl rfl
theorem dksX6_runs_2 : cX6_runs.data.toList.drop 48 = dktX6_runs_2 := dk_seg dksX6_runs_1 24 rfl rfl
theorem dX6_runs_0 : decode cX6_runs 0 = .ok (.iconst 0, 1) := dk_3 (dk_at dksX6_runs_0 0 rfl rfl)
theorem dX6_runs_1 : decode cX6_runs 1 = .ok (.istore 4, 2) := dk_54 4 (dk_at dksX6_runs_0 1 rfl rfl)
theorem dX6_runs_3 : decode cX6_runs 3 = .ok (.iload 4, 2) := dk_21 4 (dk_at dksX6_runs_0 3 rfl rfl)
theorem dX6_runs_5 : decode cX6_runs 5 = .ok (.bipush 24, 2) := dk_16 24 (dk_at dksX6_runs_0 5 rfl rfl)
theorem dX6_runs_7 : decode cX6_runs 7 = .ok (.if_icmp .gt 17, 3) := dk_163 0 17 (dk_at dksX6_runs_0 7 rfl rfl)
theorem dX6_runs_10 : decode cX6_runs 10 = .ok (.aload_n 0, 1) := dk_42 (dk_at dksX6_runs_0 10 rfl rfl)
theorem dX6_runs_11 : decode cX6_runs 11 = .ok (.getfield 63, 3) := dk_180 0 63 (dk_at dksX6_runs_0 11 rfl rfl)
theorem dX6_runs_14 : decode cX6_runs 14 = .ok (.iload 4, 2) := dk_21 4 (dk_at dksX6_runs_0 14 rfl rfl)
theorem dX6_runs_16 : decode cX6_runs 16 = .ok (.lconst 0, 1) := dk_9 (dk_at dksX6_runs_0 16 rfl rfl)
theorem dX6_runs_17 : decode cX6_runs 17 = .ok (.lastore, 1) := dk_80 (dk_at dksX6_runs_0 17 rfl rfl)
theorem dX6_runs_18 : decode cX6_runs 18 = .ok (.iinc 4 1, 3) := dk_132 4 1 (dk_at dksX6_runs_0 18 rfl rfl)
theorem dX6_runs_21 : decode cX6_runs 21 = .ok (.goto (-18), 3) := dk_167 255 238 (dk_at dksX6_runs_0 21 rfl rfl)
theorem dX6_runs_24 : decode cX6_runs 24 = .ok (.aload_n 0, 1) := dk_42 (dk_at dksX6_runs_1 0 rfl rfl)
theorem dX6_runs_25 : decode cX6_runs 25 = .ok (.getfield 63, 3) := dk_180 0 63 (dk_at dksX6_runs_1 1 rfl rfl)
theorem dX6_runs_28 : decode cX6_runs 28 = .ok (.iconst 0, 1) := dk_3 (dk_at dksX6_runs_1 4 rfl rfl)
theorem dX6_runs_29 : decode cX6_runs 29 = .ok (.ldc2_w 325, 3) := dk_20 1 69 (dk_at dksX6_runs_1 5 rfl rfl)
theorem dX6_runs_32 : decode cX6_runs 32 = .ok (.lastore, 1) := dk_80 (dk_at dksX6_runs_1 8 rfl rfl)
theorem dX6_runs_33 : decode cX6_runs 33 = .ok (.iconst 0, 1) := dk_3 (dk_at dksX6_runs_1 9 rfl rfl)
theorem dX6_runs_34 : decode cX6_runs 34 = .ok (.istore 4, 2) := dk_54 4 (dk_at dksX6_runs_1 10 rfl rfl)
theorem dX6_runs_36 : decode cX6_runs 36 = .ok (.iload 4, 2) := dk_21 4 (dk_at dksX6_runs_1 12 rfl rfl)
theorem dX6_runs_38 : decode cX6_runs 38 = .ok (.iload_n 3, 1) := dk_29 (dk_at dksX6_runs_1 14 rfl rfl)
theorem dX6_runs_39 : decode cX6_runs 39 = .ok (.if_icmp .ge 15, 3) := dk_162 0 15 (dk_at dksX6_runs_1 15 rfl rfl)
theorem dX6_runs_42 : decode cX6_runs 42 = .ok (.aload_n 0, 1) := dk_42 (dk_at dksX6_runs_1 18 rfl rfl)
theorem dX6_runs_43 : decode cX6_runs 43 = .ok (.iload_n 1, 1) := dk_27 (dk_at dksX6_runs_1 19 rfl rfl)
theorem dX6_runs_44 : decode cX6_runs 44 = .ok (.iload_n 2, 1) := dk_28 (dk_at dksX6_runs_1 20 rfl rfl)
theorem dX6_runs_45 : decode cX6_runs 45 = .ok (.invokevirtual 327, 3) := dk_182 1 71 (dk_at dksX6_runs_1 21 rfl rfl)
theorem dX6_runs_48 : decode cX6_runs 48 = .ok (.iinc 4 1, 3) := dk_132 4 1 (dk_at dksX6_runs_2 0 rfl rfl)
theorem dX6_runs_51 : decode cX6_runs 51 = .ok (.goto (-15), 3) := dk_167 255 241 (dk_at dksX6_runs_2 3 rfl rfl)
theorem dX6_runs_54 : decode cX6_runs 54 = .ok (.return_, 1) := dk_177 (dk_at dksX6_runs_2 6 rfl rfl)
abbrev cX6_aRound : ByteArray := prog_17_method_64_code
def yX6_aRound : MethodName := ⟨RX6, "aRound", "(II)V"⟩
def dkwX6_aRound_7 : List UInt8 := [180, 0, 66, 21, 5, 47, 80, 132, 5, 1, 167, 255, 232, 177]
abbrev dktX6_aRound_7 : List UInt8 := dkwX6_aRound_7 ++ []
def dkwX6_aRound_6 : List UInt8 := [132, 5, 1, 167, 255, 166, 3, 54, 5, 21, 5, 16, 24, 163, 0, 23, 42, 180, 0, 63, 21, 5, 42]
abbrev dktX6_aRound_6 : List UInt8 := dkwX6_aRound_6 ++ dktX6_aRound_7
def dkwX6_aRound_5 : List UInt8 := [22, 9, 101, 55, 6, 132, 8, 1, 167, 255, 203, 42, 21, 5, 21, 4, 27, 28, 22, 6, 182, 1, 65]
abbrev dktX6_aRound_5 : List UInt8 := dkwX6_aRound_5 ++ dktX6_aRound_6
def dkwX6_aRound_4 : List UInt8 := [96, 46, 133, 105, 29, 133, 109, 55, 9, 42, 21, 5, 21, 8, 27, 28, 22, 9, 182, 1, 65, 22, 6]
abbrev dktX6_aRound_4 : List UInt8 := dkwX6_aRound_4 ++ dktX6_aRound_5
def dkwX6_aRound_3 : List UInt8 := [54, 8, 21, 8, 21, 4, 162, 0, 52, 42, 180, 0, 63, 21, 5, 47, 42, 180, 0, 13, 16, 10, 21, 8]
abbrev dktX6_aRound_3 : List UInt8 := dkwX6_aRound_3 ++ dktX6_aRound_4
def dkwX6_aRound_2 : List UInt8 := [167, 255, 238, 3, 54, 5, 21, 5, 16, 24, 163, 0, 89, 42, 180, 0, 63, 21, 5, 47, 55, 6, 4]
abbrev dktX6_aRound_2 : List UInt8 := dkwX6_aRound_2 ++ dktX6_aRound_3
def dkwX6_aRound_1 : List UInt8 := [181, 1, 59, 3, 54, 5, 21, 5, 16, 24, 163, 0, 17, 42, 180, 0, 66, 21, 5, 9, 80, 132, 5, 1]
abbrev dktX6_aRound_1 : List UInt8 := dkwX6_aRound_1 ++ dktX6_aRound_2
def dkwX6_aRound_0 : List UInt8 := [42, 182, 1, 22, 62, 42, 182, 1, 62, 54, 4, 42, 9, 181, 1, 52, 42, 9, 181, 1, 56, 42, 9]
abbrev dktX6_aRound_0 : List UInt8 := dkwX6_aRound_0 ++ dktX6_aRound_1
theorem dksX6_aRound_0 : cX6_aRound.data.toList.drop 0 = dktX6_aRound_0 := by decide +kernel
theorem dksX6_aRound_1 : cX6_aRound.data.toList.drop 23 = dktX6_aRound_1 := dk_seg dksX6_aRound_0 23 rfl rfl
theorem dksX6_aRound_2 : cX6_aRound.data.toList.drop 47 = dktX6_aRound_2 := dk_seg dksX6_aRound_1 24 rfl rfl
theorem dksX6_aRound_3 : cX6_aRound.data.toList.drop 70 = dktX6_aRound_3 := dk_seg dksX6_aRound_2 23 rfl rfl
theorem dksX6_aRound_4 : cX6_aRound.data.toList.drop 94 = dktX6_aRound_4 := dk_seg dksX6_aRound_3 24 rfl rfl
theorem dksX6_aRound_5 : cX6_aRound.data.toList.drop 117 = dktX6_aRound_5 := dk_seg dksX6_aRound_4 23 rfl rfl
theorem dksX6_aRound_6 : cX6_aRound.data.toList.drop 140 = dktX6_aRound_6 := dk_seg dksX6_aRound_5 23 rfl rfl
theorem dksX6_aRound_7 : cX6_aRound.data.toList.drop 163 = dktX6_aRound_7 := dk_seg dksX6_aRound_6 23 rfl rfl
theorem dX6_aRound_0 : decode cX6_aRound 0 = .ok (.aload_n 0, 1) := dk_42 (dk_at dksX6_aRound_0 0 rfl rfl)
theorem dX6_aRound_1 : decode cX6_aRound 1 = .ok (.invokevirtual 278, 3) := dk_182 1 22 (dk_at dksX6_aRound_0 1 rfl rfl)
theorem dX6_aRound_4 : decode cX6_aRound 4 = .ok (.istore_n 3, 1) := dk_62 (dk_at dksX6_aRound_0 4 rfl rfl)
theorem dX6_aRound_5 : decode cX6_aRound 5 = .ok (.aload_n 0, 1) := dk_42 (dk_at dksX6_aRound_0 5 rfl rfl)
theorem dX6_aRound_6 : decode cX6_aRound 6 = .ok (.invokevirtual 318, 3) := dk_182 1 62 (dk_at dksX6_aRound_0 6 rfl rfl)
theorem dX6_aRound_9 : decode cX6_aRound 9 = .ok (.istore 4, 2) := dk_54 4 (dk_at dksX6_aRound_0 9 rfl rfl)
theorem dX6_aRound_11 : decode cX6_aRound 11 = .ok (.aload_n 0, 1) := dk_42 (dk_at dksX6_aRound_0 11 rfl rfl)
theorem dX6_aRound_12 : decode cX6_aRound 12 = .ok (.lconst 0, 1) := dk_9 (dk_at dksX6_aRound_0 12 rfl rfl)
theorem dX6_aRound_13 : decode cX6_aRound 13 = .ok (.putfield 308, 3) := dk_181 1 52 (dk_at dksX6_aRound_0 13 rfl rfl)
theorem dX6_aRound_16 : decode cX6_aRound 16 = .ok (.aload_n 0, 1) := dk_42 (dk_at dksX6_aRound_0 16 rfl rfl)
theorem dX6_aRound_17 : decode cX6_aRound 17 = .ok (.lconst 0, 1) := dk_9 (dk_at dksX6_aRound_0 17 rfl rfl)
theorem dX6_aRound_18 : decode cX6_aRound 18 = .ok (.putfield 312, 3) := dk_181 1 56 (dk_at dksX6_aRound_0 18 rfl rfl)
theorem dX6_aRound_21 : decode cX6_aRound 21 = .ok (.aload_n 0, 1) := dk_42 (dk_at dksX6_aRound_0 21 rfl rfl)
theorem dX6_aRound_22 : decode cX6_aRound 22 = .ok (.lconst 0, 1) := dk_9 (dk_at dksX6_aRound_0 22 rfl rfl)
theorem dX6_aRound_23 : decode cX6_aRound 23 = .ok (.putfield 315, 3) := dk_181 1 59 (dk_at dksX6_aRound_1 0 rfl rfl)
theorem dX6_aRound_26 : decode cX6_aRound 26 = .ok (.iconst 0, 1) := dk_3 (dk_at dksX6_aRound_1 3 rfl rfl)
theorem dX6_aRound_27 : decode cX6_aRound 27 = .ok (.istore 5, 2) := dk_54 5 (dk_at dksX6_aRound_1 4 rfl rfl)
theorem dX6_aRound_29 : decode cX6_aRound 29 = .ok (.iload 5, 2) := dk_21 5 (dk_at dksX6_aRound_1 6 rfl rfl)
theorem dX6_aRound_31 : decode cX6_aRound 31 = .ok (.bipush 24, 2) := dk_16 24 (dk_at dksX6_aRound_1 8 rfl rfl)
theorem dX6_aRound_33 : decode cX6_aRound 33 = .ok (.if_icmp .gt 17, 3) := dk_163 0 17 (dk_at dksX6_aRound_1 10 rfl rfl)
theorem dX6_aRound_36 : decode cX6_aRound 36 = .ok (.aload_n 0, 1) := dk_42 (dk_at dksX6_aRound_1 13 rfl rfl)
theorem dX6_aRound_37 : decode cX6_aRound 37 = .ok (.getfield 66, 3) := dk_180 0 66 (dk_at dksX6_aRound_1 14 rfl rfl)
theorem dX6_aRound_40 : decode cX6_aRound 40 = .ok (.iload 5, 2) := dk_21 5 (dk_at dksX6_aRound_1 17 rfl rfl)
theorem dX6_aRound_42 : decode cX6_aRound 42 = .ok (.lconst 0, 1) := dk_9 (dk_at dksX6_aRound_1 19 rfl rfl)
theorem dX6_aRound_43 : decode cX6_aRound 43 = .ok (.lastore, 1) := dk_80 (dk_at dksX6_aRound_1 20 rfl rfl)
theorem dX6_aRound_44 : decode cX6_aRound 44 = .ok (.iinc 5 1, 3) := dk_132 5 1 (dk_at dksX6_aRound_1 21 rfl rfl)
theorem dX6_aRound_47 : decode cX6_aRound 47 = .ok (.goto (-18), 3) := dk_167 255 238 (dk_at dksX6_aRound_2 0 rfl rfl)
theorem dX6_aRound_50 : decode cX6_aRound 50 = .ok (.iconst 0, 1) := dk_3 (dk_at dksX6_aRound_2 3 rfl rfl)
theorem dX6_aRound_51 : decode cX6_aRound 51 = .ok (.istore 5, 2) := dk_54 5 (dk_at dksX6_aRound_2 4 rfl rfl)
theorem dX6_aRound_53 : decode cX6_aRound 53 = .ok (.iload 5, 2) := dk_21 5 (dk_at dksX6_aRound_2 6 rfl rfl)
theorem dX6_aRound_55 : decode cX6_aRound 55 = .ok (.bipush 24, 2) := dk_16 24 (dk_at dksX6_aRound_2 8 rfl rfl)
theorem dX6_aRound_57 : decode cX6_aRound 57 = .ok (.if_icmp .gt 89, 3) := dk_163 0 89 (dk_at dksX6_aRound_2 10 rfl rfl)
theorem dX6_aRound_60 : decode cX6_aRound 60 = .ok (.aload_n 0, 1) := dk_42 (dk_at dksX6_aRound_2 13 rfl rfl)
theorem dX6_aRound_61 : decode cX6_aRound 61 = .ok (.getfield 63, 3) := dk_180 0 63 (dk_at dksX6_aRound_2 14 rfl rfl)
theorem dX6_aRound_64 : decode cX6_aRound 64 = .ok (.iload 5, 2) := dk_21 5 (dk_at dksX6_aRound_2 17 rfl rfl)
theorem dX6_aRound_66 : decode cX6_aRound 66 = .ok (.laload, 1) := dk_47 (dk_at dksX6_aRound_2 19 rfl rfl)
theorem dX6_aRound_67 : decode cX6_aRound 67 = .ok (.lstore 6, 2) := dk_55 6 (dk_at dksX6_aRound_2 20 rfl rfl)
theorem dX6_aRound_69 : decode cX6_aRound 69 = .ok (.iconst 1, 1) := dk_4 (dk_at dksX6_aRound_2 22 rfl rfl)
theorem dX6_aRound_70 : decode cX6_aRound 70 = .ok (.istore 8, 2) := dk_54 8 (dk_at dksX6_aRound_3 0 rfl rfl)
theorem dX6_aRound_72 : decode cX6_aRound 72 = .ok (.iload 8, 2) := dk_21 8 (dk_at dksX6_aRound_3 2 rfl rfl)
theorem dX6_aRound_74 : decode cX6_aRound 74 = .ok (.iload 4, 2) := dk_21 4 (dk_at dksX6_aRound_3 4 rfl rfl)
theorem dX6_aRound_76 : decode cX6_aRound 76 = .ok (.if_icmp .ge 52, 3) := dk_162 0 52 (dk_at dksX6_aRound_3 6 rfl rfl)
theorem dX6_aRound_79 : decode cX6_aRound 79 = .ok (.aload_n 0, 1) := dk_42 (dk_at dksX6_aRound_3 9 rfl rfl)
theorem dX6_aRound_80 : decode cX6_aRound 80 = .ok (.getfield 63, 3) := dk_180 0 63 (dk_at dksX6_aRound_3 10 rfl rfl)
theorem dX6_aRound_83 : decode cX6_aRound 83 = .ok (.iload 5, 2) := dk_21 5 (dk_at dksX6_aRound_3 13 rfl rfl)
theorem dX6_aRound_85 : decode cX6_aRound 85 = .ok (.laload, 1) := dk_47 (dk_at dksX6_aRound_3 15 rfl rfl)
theorem dX6_aRound_86 : decode cX6_aRound 86 = .ok (.aload_n 0, 1) := dk_42 (dk_at dksX6_aRound_3 16 rfl rfl)
theorem dX6_aRound_87 : decode cX6_aRound 87 = .ok (.getfield 13, 3) := dk_180 0 13 (dk_at dksX6_aRound_3 17 rfl rfl)
theorem dX6_aRound_90 : decode cX6_aRound 90 = .ok (.bipush 10, 2) := dk_16 10 (dk_at dksX6_aRound_3 20 rfl rfl)
theorem dX6_aRound_92 : decode cX6_aRound 92 = .ok (.iload 8, 2) := dk_21 8 (dk_at dksX6_aRound_3 22 rfl rfl)
theorem dX6_aRound_94 : decode cX6_aRound 94 = .ok (.iadd, 1) := dk_96 (dk_at dksX6_aRound_4 0 rfl rfl)
theorem dX6_aRound_95 : decode cX6_aRound 95 = .ok (.iaload, 1) := dk_46 (dk_at dksX6_aRound_4 1 rfl rfl)
theorem dX6_aRound_96 : decode cX6_aRound 96 = .ok (.i2l, 1) := dk_133 (dk_at dksX6_aRound_4 2 rfl rfl)
theorem dX6_aRound_97 : decode cX6_aRound 97 = .ok (.lmul, 1) := dk_105 (dk_at dksX6_aRound_4 3 rfl rfl)
theorem dX6_aRound_98 : decode cX6_aRound 98 = .ok (.iload_n 3, 1) := dk_29 (dk_at dksX6_aRound_4 4 rfl rfl)
theorem dX6_aRound_99 : decode cX6_aRound 99 = .ok (.i2l, 1) := dk_133 (dk_at dksX6_aRound_4 5 rfl rfl)
theorem dX6_aRound_100 : decode cX6_aRound 100 = .ok (.ldiv, 1) := dk_109 (dk_at dksX6_aRound_4 6 rfl rfl)
theorem dX6_aRound_101 : decode cX6_aRound 101 = .ok (.lstore 9, 2) := dk_55 9 (dk_at dksX6_aRound_4 7 rfl rfl)
theorem dX6_aRound_103 : decode cX6_aRound 103 = .ok (.aload_n 0, 1) := dk_42 (dk_at dksX6_aRound_4 9 rfl rfl)
theorem dX6_aRound_104 : decode cX6_aRound 104 = .ok (.iload 5, 2) := dk_21 5 (dk_at dksX6_aRound_4 10 rfl rfl)
theorem dX6_aRound_106 : decode cX6_aRound 106 = .ok (.iload 8, 2) := dk_21 8 (dk_at dksX6_aRound_4 12 rfl rfl)
theorem dX6_aRound_108 : decode cX6_aRound 108 = .ok (.iload_n 1, 1) := dk_27 (dk_at dksX6_aRound_4 14 rfl rfl)
theorem dX6_aRound_109 : decode cX6_aRound 109 = .ok (.iload_n 2, 1) := dk_28 (dk_at dksX6_aRound_4 15 rfl rfl)
theorem dX6_aRound_110 : decode cX6_aRound 110 = .ok (.lload 9, 2) := dk_22 9 (dk_at dksX6_aRound_4 16 rfl rfl)
theorem dX6_aRound_112 : decode cX6_aRound 112 = .ok (.invokevirtual 321, 3) := dk_182 1 65 (dk_at dksX6_aRound_4 18 rfl rfl)
theorem dX6_aRound_115 : decode cX6_aRound 115 = .ok (.lload 6, 2) := dk_22 6 (dk_at dksX6_aRound_4 21 rfl rfl)
theorem dX6_aRound_117 : decode cX6_aRound 117 = .ok (.lload 9, 2) := dk_22 9 (dk_at dksX6_aRound_5 0 rfl rfl)
theorem dX6_aRound_119 : decode cX6_aRound 119 = .ok (.lsub, 1) := dk_101 (dk_at dksX6_aRound_5 2 rfl rfl)
theorem dX6_aRound_120 : decode cX6_aRound 120 = .ok (.lstore 6, 2) := dk_55 6 (dk_at dksX6_aRound_5 3 rfl rfl)
theorem dX6_aRound_122 : decode cX6_aRound 122 = .ok (.iinc 8 1, 3) := dk_132 8 1 (dk_at dksX6_aRound_5 5 rfl rfl)
theorem dX6_aRound_125 : decode cX6_aRound 125 = .ok (.goto (-53), 3) := dk_167 255 203 (dk_at dksX6_aRound_5 8 rfl rfl)
theorem dX6_aRound_128 : decode cX6_aRound 128 = .ok (.aload_n 0, 1) := dk_42 (dk_at dksX6_aRound_5 11 rfl rfl)
theorem dX6_aRound_129 : decode cX6_aRound 129 = .ok (.iload 5, 2) := dk_21 5 (dk_at dksX6_aRound_5 12 rfl rfl)
theorem dX6_aRound_131 : decode cX6_aRound 131 = .ok (.iload 4, 2) := dk_21 4 (dk_at dksX6_aRound_5 14 rfl rfl)
theorem dX6_aRound_133 : decode cX6_aRound 133 = .ok (.iload_n 1, 1) := dk_27 (dk_at dksX6_aRound_5 16 rfl rfl)
theorem dX6_aRound_134 : decode cX6_aRound 134 = .ok (.iload_n 2, 1) := dk_28 (dk_at dksX6_aRound_5 17 rfl rfl)
theorem dX6_aRound_135 : decode cX6_aRound 135 = .ok (.lload 6, 2) := dk_22 6 (dk_at dksX6_aRound_5 18 rfl rfl)
theorem dX6_aRound_137 : decode cX6_aRound 137 = .ok (.invokevirtual 321, 3) := dk_182 1 65 (dk_at dksX6_aRound_5 20 rfl rfl)
theorem dX6_aRound_140 : decode cX6_aRound 140 = .ok (.iinc 5 1, 3) := dk_132 5 1 (dk_at dksX6_aRound_6 0 rfl rfl)
theorem dX6_aRound_143 : decode cX6_aRound 143 = .ok (.goto (-90), 3) := dk_167 255 166 (dk_at dksX6_aRound_6 3 rfl rfl)
theorem dX6_aRound_146 : decode cX6_aRound 146 = .ok (.iconst 0, 1) := dk_3 (dk_at dksX6_aRound_6 6 rfl rfl)
theorem dX6_aRound_147 : decode cX6_aRound 147 = .ok (.istore 5, 2) := dk_54 5 (dk_at dksX6_aRound_6 7 rfl rfl)
theorem dX6_aRound_149 : decode cX6_aRound 149 = .ok (.iload 5, 2) := dk_21 5 (dk_at dksX6_aRound_6 9 rfl rfl)
theorem dX6_aRound_151 : decode cX6_aRound 151 = .ok (.bipush 24, 2) := dk_16 24 (dk_at dksX6_aRound_6 11 rfl rfl)
theorem dX6_aRound_153 : decode cX6_aRound 153 = .ok (.if_icmp .gt 23, 3) := dk_163 0 23 (dk_at dksX6_aRound_6 13 rfl rfl)
theorem dX6_aRound_156 : decode cX6_aRound 156 = .ok (.aload_n 0, 1) := dk_42 (dk_at dksX6_aRound_6 16 rfl rfl)
theorem dX6_aRound_157 : decode cX6_aRound 157 = .ok (.getfield 63, 3) := dk_180 0 63 (dk_at dksX6_aRound_6 17 rfl rfl)
theorem dX6_aRound_160 : decode cX6_aRound 160 = .ok (.iload 5, 2) := dk_21 5 (dk_at dksX6_aRound_6 20 rfl rfl)
theorem dX6_aRound_162 : decode cX6_aRound 162 = .ok (.aload_n 0, 1) := dk_42 (dk_at dksX6_aRound_6 22 rfl rfl)
theorem dX6_aRound_163 : decode cX6_aRound 163 = .ok (.getfield 66, 3) := dk_180 0 66 (dk_at dksX6_aRound_7 0 rfl rfl)
theorem dX6_aRound_166 : decode cX6_aRound 166 = .ok (.iload 5, 2) := dk_21 5 (dk_at dksX6_aRound_7 3 rfl rfl)
theorem dX6_aRound_168 : decode cX6_aRound 168 = .ok (.laload, 1) := dk_47 (dk_at dksX6_aRound_7 5 rfl rfl)
theorem dX6_aRound_169 : decode cX6_aRound 169 = .ok (.lastore, 1) := dk_80 (dk_at dksX6_aRound_7 6 rfl rfl)
theorem dX6_aRound_170 : decode cX6_aRound 170 = .ok (.iinc 5 1, 3) := dk_132 5 1 (dk_at dksX6_aRound_7 7 rfl rfl)
theorem dX6_aRound_173 : decode cX6_aRound 173 = .ok (.goto (-24), 3) := dk_167 255 232 (dk_at dksX6_aRound_7 10 rfl rfl)
theorem dX6_aRound_176 : decode cX6_aRound 176 = .ok (.return_, 1) := dk_177 (dk_at dksX6_aRound_7 13 rfl rfl)
abbrev cX6_greatestSize : ByteArray := prog_17_method_71_code
def yX6_greatestSize : MethodName := ⟨RX6, "greatestSize", "()I"⟩
def dkwX6_greatestSize_0 : List UInt8 := [16, 12, 60, 42, 180, 0, 13, 16, 10, 27, 96, 46, 154, 0, 10, 27, 4, 100, 60, 167, 255, 240, 27, 172]
abbrev dktX6_greatestSize_0 : List UInt8 := dkwX6_greatestSize_0 ++ []
theorem dksX6_greatestSize_0 : cX6_greatestSize.data.toList.drop 0 = dktX6_greatestSize_0 := by decide +kernel
theorem dX6_greatestSize_0 : decode cX6_greatestSize 0 = .ok (.bipush 12, 2) := dk_16 12 (dk_at dksX6_greatestSize_0 0 rfl rfl)
theorem dX6_greatestSize_2 : decode cX6_greatestSize 2 = .ok (.istore_n 1, 1) := dk_60 (dk_at dksX6_greatestSize_0 2 rfl rfl)
theorem dX6_greatestSize_3 : decode cX6_greatestSize 3 = .ok (.aload_n 0, 1) := dk_42 (dk_at dksX6_greatestSize_0 3 rfl rfl)
theorem dX6_greatestSize_4 : decode cX6_greatestSize 4 = .ok (.getfield 13, 3) := dk_180 0 13 (dk_at dksX6_greatestSize_0 4 rfl rfl)
theorem dX6_greatestSize_7 : decode cX6_greatestSize 7 = .ok (.bipush 10, 2) := dk_16 10 (dk_at dksX6_greatestSize_0 7 rfl rfl)
theorem dX6_greatestSize_9 : decode cX6_greatestSize 9 = .ok (.iload_n 1, 1) := dk_27 (dk_at dksX6_greatestSize_0 9 rfl rfl)
theorem dX6_greatestSize_10 : decode cX6_greatestSize 10 = .ok (.iadd, 1) := dk_96 (dk_at dksX6_greatestSize_0 10 rfl rfl)
theorem dX6_greatestSize_11 : decode cX6_greatestSize 11 = .ok (.iaload, 1) := dk_46 (dk_at dksX6_greatestSize_0 11 rfl rfl)
theorem dX6_greatestSize_12 : decode cX6_greatestSize 12 = .ok (.ifCond .ne 10, 3) := dk_154 0 10 (dk_at dksX6_greatestSize_0 12 rfl rfl)
theorem dX6_greatestSize_15 : decode cX6_greatestSize 15 = .ok (.iload_n 1, 1) := dk_27 (dk_at dksX6_greatestSize_0 15 rfl rfl)
theorem dX6_greatestSize_16 : decode cX6_greatestSize 16 = .ok (.iconst 1, 1) := dk_4 (dk_at dksX6_greatestSize_0 16 rfl rfl)
theorem dX6_greatestSize_17 : decode cX6_greatestSize 17 = .ok (.isub, 1) := dk_100 (dk_at dksX6_greatestSize_0 17 rfl rfl)
theorem dX6_greatestSize_18 : decode cX6_greatestSize 18 = .ok (.istore_n 1, 1) := dk_60 (dk_at dksX6_greatestSize_0 18 rfl rfl)
theorem dX6_greatestSize_19 : decode cX6_greatestSize 19 = .ok (.goto (-16), 3) := dk_167 255 240 (dk_at dksX6_greatestSize_0 19 rfl rfl)
theorem dX6_greatestSize_22 : decode cX6_greatestSize 22 = .ok (.iload_n 1, 1) := dk_27 (dk_at dksX6_greatestSize_0 22 rfl rfl)
theorem dX6_greatestSize_23 : decode cX6_greatestSize 23 = .ok (.ireturn, 1) := dk_172 (dk_at dksX6_greatestSize_0 23 rfl rfl)
abbrev cX6_goesOn : ByteArray := prog_17_method_63_code
def yX6_goesOn : MethodName := ⟨RX6, "goesOn", "(IIIIJ)V"⟩
def dkwX6_goesOn_6 : List UInt8 := [167, 0, 11, 5, 42, 180, 0, 13, 3, 46, 104, 133, 105, 28, 133, 105, 97, 181, 1, 59, 177]
abbrev dktX6_goesOn_6 : List UInt8 := dkwX6_goesOn_6 ++ []
def dkwX6_goesOn_5 : List UInt8 := [42, 180, 1, 59, 22, 5, 21, 7, 153, 0, 19, 42, 180, 0, 13, 4, 46, 42, 180, 0, 13, 5, 46, 100]
abbrev dktX6_goesOn_5 : List UInt8 := dkwX6_goesOn_5 ++ dktX6_goesOn_6
def dkwX6_goesOn_4 : List UInt8 := [180, 0, 13, 4, 46, 167, 0, 9, 42, 180, 0, 13, 3, 46, 133, 105, 28, 133, 105, 97, 181, 1, 56, 42]
abbrev dktX6_goesOn_4 : List UInt8 := dkwX6_goesOn_4 ++ dktX6_goesOn_5
def dkwX6_goesOn_3 : List UInt8 := [180, 1, 52, 22, 5, 97, 181, 1, 52, 42, 42, 180, 1, 56, 22, 5, 21, 7, 153, 0, 12, 42]
abbrev dktX6_goesOn_3 : List UInt8 := dkwX6_goesOn_3 ++ dktX6_goesOn_4
def dkwX6_goesOn_2 : List UInt8 := [180, 0, 66, 21, 8, 42, 180, 0, 66, 21, 8, 47, 22, 5, 97, 80, 21, 7, 153, 0, 14, 42, 42]
abbrev dktX6_goesOn_2 : List UInt8 := dkwX6_goesOn_2 ++ dktX6_goesOn_3
def dkwX6_goesOn_1 : List UInt8 := [21, 4, 100, 167, 0, 17, 27, 16, 24, 162, 0, 9, 27, 4, 96, 167, 0, 5, 16, 24, 54, 8, 42]
abbrev dktX6_goesOn_1 : List UInt8 := dkwX6_goesOn_1 ++ dktX6_goesOn_2
def dkwX6_goesOn_0 : List UInt8 := [28, 29, 161, 0, 13, 27, 21, 4, 161, 0, 7, 4, 167, 0, 4, 3, 54, 7, 21, 7, 153, 0, 10, 27]
abbrev dktX6_goesOn_0 : List UInt8 := dkwX6_goesOn_0 ++ dktX6_goesOn_1
theorem dksX6_goesOn_0 : cX6_goesOn.data.toList.drop 0 = dktX6_goesOn_0 := by decide +kernel
theorem dksX6_goesOn_1 : cX6_goesOn.data.toList.drop 24 = dktX6_goesOn_1 := dk_seg dksX6_goesOn_0 24 rfl rfl
theorem dksX6_goesOn_2 : cX6_goesOn.data.toList.drop 47 = dktX6_goesOn_2 := dk_seg dksX6_goesOn_1 23 rfl rfl
theorem dksX6_goesOn_3 : cX6_goesOn.data.toList.drop 70 = dktX6_goesOn_3 := dk_seg dksX6_goesOn_2 23 rfl rfl
theorem dksX6_goesOn_4 : cX6_goesOn.data.toList.drop 92 = dktX6_goesOn_4 := dk_seg dksX6_goesOn_3 22 rfl rfl
theorem dksX6_goesOn_5 : cX6_goesOn.data.toList.drop 116 = dktX6_goesOn_5 := dk_seg dksX6_goesOn_4 24 rfl rfl
theorem dksX6_goesOn_6 : cX6_goesOn.data.toList.drop 140 = dktX6_goesOn_6 := dk_seg dksX6_goesOn_5 24 rfl rfl
theorem dX6_goesOn_0 : decode cX6_goesOn 0 = .ok (.iload_n 2, 1) := dk_28 (dk_at dksX6_goesOn_0 0 rfl rfl)
theorem dX6_goesOn_1 : decode cX6_goesOn 1 = .ok (.iload_n 3, 1) := dk_29 (dk_at dksX6_goesOn_0 1 rfl rfl)
theorem dX6_goesOn_2 : decode cX6_goesOn 2 = .ok (.if_icmp .lt 13, 3) := dk_161 0 13 (dk_at dksX6_goesOn_0 2 rfl rfl)
theorem dX6_goesOn_5 : decode cX6_goesOn 5 = .ok (.iload_n 1, 1) := dk_27 (dk_at dksX6_goesOn_0 5 rfl rfl)
theorem dX6_goesOn_6 : decode cX6_goesOn 6 = .ok (.iload 4, 2) := dk_21 4 (dk_at dksX6_goesOn_0 6 rfl rfl)
theorem dX6_goesOn_8 : decode cX6_goesOn 8 = .ok (.if_icmp .lt 7, 3) := dk_161 0 7 (dk_at dksX6_goesOn_0 8 rfl rfl)
theorem dX6_goesOn_11 : decode cX6_goesOn 11 = .ok (.iconst 1, 1) := dk_4 (dk_at dksX6_goesOn_0 11 rfl rfl)
theorem dX6_goesOn_12 : decode cX6_goesOn 12 = .ok (.goto 4, 3) := dk_167 0 4 (dk_at dksX6_goesOn_0 12 rfl rfl)
theorem dX6_goesOn_15 : decode cX6_goesOn 15 = .ok (.iconst 0, 1) := dk_3 (dk_at dksX6_goesOn_0 15 rfl rfl)
theorem dX6_goesOn_16 : decode cX6_goesOn 16 = .ok (.istore 7, 2) := dk_54 7 (dk_at dksX6_goesOn_0 16 rfl rfl)
theorem dX6_goesOn_18 : decode cX6_goesOn 18 = .ok (.iload 7, 2) := dk_21 7 (dk_at dksX6_goesOn_0 18 rfl rfl)
theorem dX6_goesOn_20 : decode cX6_goesOn 20 = .ok (.ifCond .eq 10, 3) := dk_153 0 10 (dk_at dksX6_goesOn_0 20 rfl rfl)
theorem dX6_goesOn_23 : decode cX6_goesOn 23 = .ok (.iload_n 1, 1) := dk_27 (dk_at dksX6_goesOn_0 23 rfl rfl)
theorem dX6_goesOn_24 : decode cX6_goesOn 24 = .ok (.iload 4, 2) := dk_21 4 (dk_at dksX6_goesOn_1 0 rfl rfl)
theorem dX6_goesOn_26 : decode cX6_goesOn 26 = .ok (.isub, 1) := dk_100 (dk_at dksX6_goesOn_1 2 rfl rfl)
theorem dX6_goesOn_27 : decode cX6_goesOn 27 = .ok (.goto 17, 3) := dk_167 0 17 (dk_at dksX6_goesOn_1 3 rfl rfl)
theorem dX6_goesOn_30 : decode cX6_goesOn 30 = .ok (.iload_n 1, 1) := dk_27 (dk_at dksX6_goesOn_1 6 rfl rfl)
theorem dX6_goesOn_31 : decode cX6_goesOn 31 = .ok (.bipush 24, 2) := dk_16 24 (dk_at dksX6_goesOn_1 7 rfl rfl)
theorem dX6_goesOn_33 : decode cX6_goesOn 33 = .ok (.if_icmp .ge 9, 3) := dk_162 0 9 (dk_at dksX6_goesOn_1 9 rfl rfl)
theorem dX6_goesOn_36 : decode cX6_goesOn 36 = .ok (.iload_n 1, 1) := dk_27 (dk_at dksX6_goesOn_1 12 rfl rfl)
theorem dX6_goesOn_37 : decode cX6_goesOn 37 = .ok (.iconst 1, 1) := dk_4 (dk_at dksX6_goesOn_1 13 rfl rfl)
theorem dX6_goesOn_38 : decode cX6_goesOn 38 = .ok (.iadd, 1) := dk_96 (dk_at dksX6_goesOn_1 14 rfl rfl)
theorem dX6_goesOn_39 : decode cX6_goesOn 39 = .ok (.goto 5, 3) := dk_167 0 5 (dk_at dksX6_goesOn_1 15 rfl rfl)
theorem dX6_goesOn_42 : decode cX6_goesOn 42 = .ok (.bipush 24, 2) := dk_16 24 (dk_at dksX6_goesOn_1 18 rfl rfl)
theorem dX6_goesOn_44 : decode cX6_goesOn 44 = .ok (.istore 8, 2) := dk_54 8 (dk_at dksX6_goesOn_1 20 rfl rfl)
theorem dX6_goesOn_46 : decode cX6_goesOn 46 = .ok (.aload_n 0, 1) := dk_42 (dk_at dksX6_goesOn_1 22 rfl rfl)
theorem dX6_goesOn_47 : decode cX6_goesOn 47 = .ok (.getfield 66, 3) := dk_180 0 66 (dk_at dksX6_goesOn_2 0 rfl rfl)
theorem dX6_goesOn_50 : decode cX6_goesOn 50 = .ok (.iload 8, 2) := dk_21 8 (dk_at dksX6_goesOn_2 3 rfl rfl)
theorem dX6_goesOn_52 : decode cX6_goesOn 52 = .ok (.aload_n 0, 1) := dk_42 (dk_at dksX6_goesOn_2 5 rfl rfl)
theorem dX6_goesOn_53 : decode cX6_goesOn 53 = .ok (.getfield 66, 3) := dk_180 0 66 (dk_at dksX6_goesOn_2 6 rfl rfl)
theorem dX6_goesOn_56 : decode cX6_goesOn 56 = .ok (.iload 8, 2) := dk_21 8 (dk_at dksX6_goesOn_2 9 rfl rfl)
theorem dX6_goesOn_58 : decode cX6_goesOn 58 = .ok (.laload, 1) := dk_47 (dk_at dksX6_goesOn_2 11 rfl rfl)
theorem dX6_goesOn_59 : decode cX6_goesOn 59 = .ok (.lload 5, 2) := dk_22 5 (dk_at dksX6_goesOn_2 12 rfl rfl)
theorem dX6_goesOn_61 : decode cX6_goesOn 61 = .ok (.ladd, 1) := dk_97 (dk_at dksX6_goesOn_2 14 rfl rfl)
theorem dX6_goesOn_62 : decode cX6_goesOn 62 = .ok (.lastore, 1) := dk_80 (dk_at dksX6_goesOn_2 15 rfl rfl)
theorem dX6_goesOn_63 : decode cX6_goesOn 63 = .ok (.iload 7, 2) := dk_21 7 (dk_at dksX6_goesOn_2 16 rfl rfl)
theorem dX6_goesOn_65 : decode cX6_goesOn 65 = .ok (.ifCond .eq 14, 3) := dk_153 0 14 (dk_at dksX6_goesOn_2 18 rfl rfl)
theorem dX6_goesOn_68 : decode cX6_goesOn 68 = .ok (.aload_n 0, 1) := dk_42 (dk_at dksX6_goesOn_2 21 rfl rfl)
theorem dX6_goesOn_69 : decode cX6_goesOn 69 = .ok (.aload_n 0, 1) := dk_42 (dk_at dksX6_goesOn_2 22 rfl rfl)
theorem dX6_goesOn_70 : decode cX6_goesOn 70 = .ok (.getfield 308, 3) := dk_180 1 52 (dk_at dksX6_goesOn_3 0 rfl rfl)
theorem dX6_goesOn_73 : decode cX6_goesOn 73 = .ok (.lload 5, 2) := dk_22 5 (dk_at dksX6_goesOn_3 3 rfl rfl)
theorem dX6_goesOn_75 : decode cX6_goesOn 75 = .ok (.ladd, 1) := dk_97 (dk_at dksX6_goesOn_3 5 rfl rfl)
theorem dX6_goesOn_76 : decode cX6_goesOn 76 = .ok (.putfield 308, 3) := dk_181 1 52 (dk_at dksX6_goesOn_3 6 rfl rfl)
theorem dX6_goesOn_79 : decode cX6_goesOn 79 = .ok (.aload_n 0, 1) := dk_42 (dk_at dksX6_goesOn_3 9 rfl rfl)
theorem dX6_goesOn_80 : decode cX6_goesOn 80 = .ok (.aload_n 0, 1) := dk_42 (dk_at dksX6_goesOn_3 10 rfl rfl)
theorem dX6_goesOn_81 : decode cX6_goesOn 81 = .ok (.getfield 312, 3) := dk_180 1 56 (dk_at dksX6_goesOn_3 11 rfl rfl)
theorem dX6_goesOn_84 : decode cX6_goesOn 84 = .ok (.lload 5, 2) := dk_22 5 (dk_at dksX6_goesOn_3 14 rfl rfl)
theorem dX6_goesOn_86 : decode cX6_goesOn 86 = .ok (.iload 7, 2) := dk_21 7 (dk_at dksX6_goesOn_3 16 rfl rfl)
theorem dX6_goesOn_88 : decode cX6_goesOn 88 = .ok (.ifCond .eq 12, 3) := dk_153 0 12 (dk_at dksX6_goesOn_3 18 rfl rfl)
theorem dX6_goesOn_91 : decode cX6_goesOn 91 = .ok (.aload_n 0, 1) := dk_42 (dk_at dksX6_goesOn_3 21 rfl rfl)
theorem dX6_goesOn_92 : decode cX6_goesOn 92 = .ok (.getfield 13, 3) := dk_180 0 13 (dk_at dksX6_goesOn_4 0 rfl rfl)
theorem dX6_goesOn_95 : decode cX6_goesOn 95 = .ok (.iconst 1, 1) := dk_4 (dk_at dksX6_goesOn_4 3 rfl rfl)
theorem dX6_goesOn_96 : decode cX6_goesOn 96 = .ok (.iaload, 1) := dk_46 (dk_at dksX6_goesOn_4 4 rfl rfl)
theorem dX6_goesOn_97 : decode cX6_goesOn 97 = .ok (.goto 9, 3) := dk_167 0 9 (dk_at dksX6_goesOn_4 5 rfl rfl)
theorem dX6_goesOn_100 : decode cX6_goesOn 100 = .ok (.aload_n 0, 1) := dk_42 (dk_at dksX6_goesOn_4 8 rfl rfl)
theorem dX6_goesOn_101 : decode cX6_goesOn 101 = .ok (.getfield 13, 3) := dk_180 0 13 (dk_at dksX6_goesOn_4 9 rfl rfl)
theorem dX6_goesOn_104 : decode cX6_goesOn 104 = .ok (.iconst 0, 1) := dk_3 (dk_at dksX6_goesOn_4 12 rfl rfl)
theorem dX6_goesOn_105 : decode cX6_goesOn 105 = .ok (.iaload, 1) := dk_46 (dk_at dksX6_goesOn_4 13 rfl rfl)
theorem dX6_goesOn_106 : decode cX6_goesOn 106 = .ok (.i2l, 1) := dk_133 (dk_at dksX6_goesOn_4 14 rfl rfl)
theorem dX6_goesOn_107 : decode cX6_goesOn 107 = .ok (.lmul, 1) := dk_105 (dk_at dksX6_goesOn_4 15 rfl rfl)
theorem dX6_goesOn_108 : decode cX6_goesOn 108 = .ok (.iload_n 2, 1) := dk_28 (dk_at dksX6_goesOn_4 16 rfl rfl)
theorem dX6_goesOn_109 : decode cX6_goesOn 109 = .ok (.i2l, 1) := dk_133 (dk_at dksX6_goesOn_4 17 rfl rfl)
theorem dX6_goesOn_110 : decode cX6_goesOn 110 = .ok (.lmul, 1) := dk_105 (dk_at dksX6_goesOn_4 18 rfl rfl)
theorem dX6_goesOn_111 : decode cX6_goesOn 111 = .ok (.ladd, 1) := dk_97 (dk_at dksX6_goesOn_4 19 rfl rfl)
theorem dX6_goesOn_112 : decode cX6_goesOn 112 = .ok (.putfield 312, 3) := dk_181 1 56 (dk_at dksX6_goesOn_4 20 rfl rfl)
theorem dX6_goesOn_115 : decode cX6_goesOn 115 = .ok (.aload_n 0, 1) := dk_42 (dk_at dksX6_goesOn_4 23 rfl rfl)
theorem dX6_goesOn_116 : decode cX6_goesOn 116 = .ok (.aload_n 0, 1) := dk_42 (dk_at dksX6_goesOn_5 0 rfl rfl)
theorem dX6_goesOn_117 : decode cX6_goesOn 117 = .ok (.getfield 315, 3) := dk_180 1 59 (dk_at dksX6_goesOn_5 1 rfl rfl)
theorem dX6_goesOn_120 : decode cX6_goesOn 120 = .ok (.lload 5, 2) := dk_22 5 (dk_at dksX6_goesOn_5 4 rfl rfl)
theorem dX6_goesOn_122 : decode cX6_goesOn 122 = .ok (.iload 7, 2) := dk_21 7 (dk_at dksX6_goesOn_5 6 rfl rfl)
theorem dX6_goesOn_124 : decode cX6_goesOn 124 = .ok (.ifCond .eq 19, 3) := dk_153 0 19 (dk_at dksX6_goesOn_5 8 rfl rfl)
theorem dX6_goesOn_127 : decode cX6_goesOn 127 = .ok (.aload_n 0, 1) := dk_42 (dk_at dksX6_goesOn_5 11 rfl rfl)
theorem dX6_goesOn_128 : decode cX6_goesOn 128 = .ok (.getfield 13, 3) := dk_180 0 13 (dk_at dksX6_goesOn_5 12 rfl rfl)
theorem dX6_goesOn_131 : decode cX6_goesOn 131 = .ok (.iconst 1, 1) := dk_4 (dk_at dksX6_goesOn_5 15 rfl rfl)
theorem dX6_goesOn_132 : decode cX6_goesOn 132 = .ok (.iaload, 1) := dk_46 (dk_at dksX6_goesOn_5 16 rfl rfl)
theorem dX6_goesOn_133 : decode cX6_goesOn 133 = .ok (.aload_n 0, 1) := dk_42 (dk_at dksX6_goesOn_5 17 rfl rfl)
theorem dX6_goesOn_134 : decode cX6_goesOn 134 = .ok (.getfield 13, 3) := dk_180 0 13 (dk_at dksX6_goesOn_5 18 rfl rfl)
theorem dX6_goesOn_137 : decode cX6_goesOn 137 = .ok (.iconst 2, 1) := dk_5 (dk_at dksX6_goesOn_5 21 rfl rfl)
theorem dX6_goesOn_138 : decode cX6_goesOn 138 = .ok (.iaload, 1) := dk_46 (dk_at dksX6_goesOn_5 22 rfl rfl)
theorem dX6_goesOn_139 : decode cX6_goesOn 139 = .ok (.isub, 1) := dk_100 (dk_at dksX6_goesOn_5 23 rfl rfl)
theorem dX6_goesOn_140 : decode cX6_goesOn 140 = .ok (.goto 11, 3) := dk_167 0 11 (dk_at dksX6_goesOn_6 0 rfl rfl)
theorem dX6_goesOn_143 : decode cX6_goesOn 143 = .ok (.iconst 2, 1) := dk_5 (dk_at dksX6_goesOn_6 3 rfl rfl)
theorem dX6_goesOn_144 : decode cX6_goesOn 144 = .ok (.aload_n 0, 1) := dk_42 (dk_at dksX6_goesOn_6 4 rfl rfl)
theorem dX6_goesOn_145 : decode cX6_goesOn 145 = .ok (.getfield 13, 3) := dk_180 0 13 (dk_at dksX6_goesOn_6 5 rfl rfl)
theorem dX6_goesOn_148 : decode cX6_goesOn 148 = .ok (.iconst 0, 1) := dk_3 (dk_at dksX6_goesOn_6 8 rfl rfl)
theorem dX6_goesOn_149 : decode cX6_goesOn 149 = .ok (.iaload, 1) := dk_46 (dk_at dksX6_goesOn_6 9 rfl rfl)
theorem dX6_goesOn_150 : decode cX6_goesOn 150 = .ok (.imul, 1) := dk_104 (dk_at dksX6_goesOn_6 10 rfl rfl)
theorem dX6_goesOn_151 : decode cX6_goesOn 151 = .ok (.i2l, 1) := dk_133 (dk_at dksX6_goesOn_6 11 rfl rfl)
theorem dX6_goesOn_152 : decode cX6_goesOn 152 = .ok (.lmul, 1) := dk_105 (dk_at dksX6_goesOn_6 12 rfl rfl)
theorem dX6_goesOn_153 : decode cX6_goesOn 153 = .ok (.iload_n 2, 1) := dk_28 (dk_at dksX6_goesOn_6 13 rfl rfl)
theorem dX6_goesOn_154 : decode cX6_goesOn 154 = .ok (.i2l, 1) := dk_133 (dk_at dksX6_goesOn_6 14 rfl rfl)
theorem dX6_goesOn_155 : decode cX6_goesOn 155 = .ok (.lmul, 1) := dk_105 (dk_at dksX6_goesOn_6 15 rfl rfl)
theorem dX6_goesOn_156 : decode cX6_goesOn 156 = .ok (.ladd, 1) := dk_97 (dk_at dksX6_goesOn_6 16 rfl rfl)
theorem dX6_goesOn_157 : decode cX6_goesOn 157 = .ok (.putfield 315, 3) := dk_181 1 59 (dk_at dksX6_goesOn_6 17 rfl rfl)
theorem dX6_goesOn_160 : decode cX6_goesOn 160 = .ok (.return_, 1) := dk_177 (dk_at dksX6_goesOn_6 20 rfl rfl)
abbrev cX6_common : ByteArray := prog_17_method_68_code
def yX6_common : MethodName := ⟨RX6, "common", "(III)J"⟩
def dkwX6_common_6 : List UInt8 := [21, 4, 133, 173]
abbrev dktX6_common_6 : List UInt8 := dkwX6_common_6 ++ []
def dkwX6_common_5 : List UInt8 := [167, 0, 17, 21, 7, 54, 4, 42, 42, 180, 1, 59, 182, 1, 81, 55, 5, 132, 7, 1, 167, 255, 201]
abbrev dktX6_common_5 : List UInt8 := dkwX6_common_5 ++ dktX6_common_6
def dkwX6_common_4 : List UInt8 := [29, 182, 1, 76, 21, 4, 2, 159, 0, 20, 42, 42, 180, 1, 59, 182, 1, 81, 22, 5, 148, 157, 0, 6]
abbrev dktX6_common_4 : List UInt8 := dkwX6_common_4 ++ dktX6_common_5
def dkwX6_common_3 : List UInt8 := [182, 1, 81, 173, 2, 54, 4, 9, 55, 5, 4, 54, 7, 21, 7, 16, 9, 163, 0, 54, 42, 27, 21, 7]
abbrev dktX6_common_3 : List UInt8 := dkwX6_common_3 ++ dktX6_common_4
def dkwX6_common_2 : List UInt8 := [154, 0, 7, 20, 1, 44, 173, 28, 2, 159, 0, 19, 42, 27, 28, 29, 182, 1, 76, 42, 42, 180, 1, 59]
abbrev dktX6_common_2 : List UInt8 := dkwX6_common_2 ++ dktX6_common_3
def dkwX6_common_1 : List UInt8 := [16, 9, 182, 0, 109, 153, 0, 22, 42, 29, 4, 17, 0, 200, 182, 0, 109, 153, 0, 10, 42, 182, 1, 22]
abbrev dktX6_common_1 : List UInt8 := dkwX6_common_1 ++ dktX6_common_2
def dkwX6_common_0 : List UInt8 := [42, 3, 181, 0, 90, 42, 27, 4, 16, 13, 182, 0, 109, 153, 0, 38, 28, 2, 159, 0, 14, 42, 28, 4]
abbrev dktX6_common_0 : List UInt8 := dkwX6_common_0 ++ dktX6_common_1
theorem dksX6_common_0 : cX6_common.data.toList.drop 0 = dktX6_common_0 := by decide +kernel
theorem dksX6_common_1 : cX6_common.data.toList.drop 24 = dktX6_common_1 := dk_seg dksX6_common_0 24 rfl rfl
theorem dksX6_common_2 : cX6_common.data.toList.drop 48 = dktX6_common_2 := dk_seg dksX6_common_1 24 rfl rfl
theorem dksX6_common_3 : cX6_common.data.toList.drop 72 = dktX6_common_3 := dk_seg dksX6_common_2 24 rfl rfl
theorem dksX6_common_4 : cX6_common.data.toList.drop 96 = dktX6_common_4 := dk_seg dksX6_common_3 24 rfl rfl
theorem dksX6_common_5 : cX6_common.data.toList.drop 120 = dktX6_common_5 := dk_seg dksX6_common_4 24 rfl rfl
theorem dksX6_common_6 : cX6_common.data.toList.drop 143 = dktX6_common_6 := dk_seg dksX6_common_5 23 rfl rfl
theorem dX6_common_0 : decode cX6_common 0 = .ok (.aload_n 0, 1) := dk_42 (dk_at dksX6_common_0 0 rfl rfl)
theorem dX6_common_1 : decode cX6_common 1 = .ok (.iconst 0, 1) := dk_3 (dk_at dksX6_common_0 1 rfl rfl)
theorem dX6_common_2 : decode cX6_common 2 = .ok (.putfield 90, 3) := dk_181 0 90 (dk_at dksX6_common_0 2 rfl rfl)
theorem dX6_common_5 : decode cX6_common 5 = .ok (.aload_n 0, 1) := dk_42 (dk_at dksX6_common_0 5 rfl rfl)
theorem dX6_common_6 : decode cX6_common 6 = .ok (.iload_n 1, 1) := dk_27 (dk_at dksX6_common_0 6 rfl rfl)
theorem dX6_common_7 : decode cX6_common 7 = .ok (.iconst 1, 1) := dk_4 (dk_at dksX6_common_0 7 rfl rfl)
theorem dX6_common_8 : decode cX6_common 8 = .ok (.bipush 13, 2) := dk_16 13 (dk_at dksX6_common_0 8 rfl rfl)
theorem dX6_common_10 : decode cX6_common 10 = .ok (.invokevirtual 109, 3) := dk_182 0 109 (dk_at dksX6_common_0 10 rfl rfl)
theorem dX6_common_13 : decode cX6_common 13 = .ok (.ifCond .eq 38, 3) := dk_153 0 38 (dk_at dksX6_common_0 13 rfl rfl)
theorem dX6_common_16 : decode cX6_common 16 = .ok (.iload_n 2, 1) := dk_28 (dk_at dksX6_common_0 16 rfl rfl)
theorem dX6_common_17 : decode cX6_common 17 = .ok (.iconst (-1), 1) := dk_2 (dk_at dksX6_common_0 17 rfl rfl)
theorem dX6_common_18 : decode cX6_common 18 = .ok (.if_icmp .eq 14, 3) := dk_159 0 14 (dk_at dksX6_common_0 18 rfl rfl)
theorem dX6_common_21 : decode cX6_common 21 = .ok (.aload_n 0, 1) := dk_42 (dk_at dksX6_common_0 21 rfl rfl)
theorem dX6_common_22 : decode cX6_common 22 = .ok (.iload_n 2, 1) := dk_28 (dk_at dksX6_common_0 22 rfl rfl)
theorem dX6_common_23 : decode cX6_common 23 = .ok (.iconst 1, 1) := dk_4 (dk_at dksX6_common_0 23 rfl rfl)
theorem dX6_common_24 : decode cX6_common 24 = .ok (.bipush 9, 2) := dk_16 9 (dk_at dksX6_common_1 0 rfl rfl)
theorem dX6_common_26 : decode cX6_common 26 = .ok (.invokevirtual 109, 3) := dk_182 0 109 (dk_at dksX6_common_1 2 rfl rfl)
theorem dX6_common_29 : decode cX6_common 29 = .ok (.ifCond .eq 22, 3) := dk_153 0 22 (dk_at dksX6_common_1 5 rfl rfl)
theorem dX6_common_32 : decode cX6_common 32 = .ok (.aload_n 0, 1) := dk_42 (dk_at dksX6_common_1 8 rfl rfl)
theorem dX6_common_33 : decode cX6_common 33 = .ok (.iload_n 3, 1) := dk_29 (dk_at dksX6_common_1 9 rfl rfl)
theorem dX6_common_34 : decode cX6_common 34 = .ok (.iconst 1, 1) := dk_4 (dk_at dksX6_common_1 10 rfl rfl)
theorem dX6_common_35 : decode cX6_common 35 = .ok (.sipush 200, 3) := dk_17 0 200 (dk_at dksX6_common_1 11 rfl rfl)
theorem dX6_common_38 : decode cX6_common 38 = .ok (.invokevirtual 109, 3) := dk_182 0 109 (dk_at dksX6_common_1 14 rfl rfl)
theorem dX6_common_41 : decode cX6_common 41 = .ok (.ifCond .eq 10, 3) := dk_153 0 10 (dk_at dksX6_common_1 17 rfl rfl)
theorem dX6_common_44 : decode cX6_common 44 = .ok (.aload_n 0, 1) := dk_42 (dk_at dksX6_common_1 20 rfl rfl)
theorem dX6_common_45 : decode cX6_common 45 = .ok (.invokevirtual 278, 3) := dk_182 1 22 (dk_at dksX6_common_1 21 rfl rfl)
theorem dX6_common_48 : decode cX6_common 48 = .ok (.ifCond .ne 7, 3) := dk_154 0 7 (dk_at dksX6_common_2 0 rfl rfl)
theorem dX6_common_51 : decode cX6_common 51 = .ok (.ldc2_w 300, 3) := dk_20 1 44 (dk_at dksX6_common_2 3 rfl rfl)
theorem dX6_common_54 : decode cX6_common 54 = .ok (.lreturn, 1) := dk_173 (dk_at dksX6_common_2 6 rfl rfl)
theorem dX6_common_55 : decode cX6_common 55 = .ok (.iload_n 2, 1) := dk_28 (dk_at dksX6_common_2 7 rfl rfl)
theorem dX6_common_56 : decode cX6_common 56 = .ok (.iconst (-1), 1) := dk_2 (dk_at dksX6_common_2 8 rfl rfl)
theorem dX6_common_57 : decode cX6_common 57 = .ok (.if_icmp .eq 19, 3) := dk_159 0 19 (dk_at dksX6_common_2 9 rfl rfl)
theorem dX6_common_60 : decode cX6_common 60 = .ok (.aload_n 0, 1) := dk_42 (dk_at dksX6_common_2 12 rfl rfl)
theorem dX6_common_61 : decode cX6_common 61 = .ok (.iload_n 1, 1) := dk_27 (dk_at dksX6_common_2 13 rfl rfl)
theorem dX6_common_62 : decode cX6_common 62 = .ok (.iload_n 2, 1) := dk_28 (dk_at dksX6_common_2 14 rfl rfl)
theorem dX6_common_63 : decode cX6_common 63 = .ok (.iload_n 3, 1) := dk_29 (dk_at dksX6_common_2 15 rfl rfl)
theorem dX6_common_64 : decode cX6_common 64 = .ok (.invokevirtual 332, 3) := dk_182 1 76 (dk_at dksX6_common_2 16 rfl rfl)
theorem dX6_common_67 : decode cX6_common 67 = .ok (.aload_n 0, 1) := dk_42 (dk_at dksX6_common_2 19 rfl rfl)
theorem dX6_common_68 : decode cX6_common 68 = .ok (.aload_n 0, 1) := dk_42 (dk_at dksX6_common_2 20 rfl rfl)
theorem dX6_common_69 : decode cX6_common 69 = .ok (.getfield 315, 3) := dk_180 1 59 (dk_at dksX6_common_2 21 rfl rfl)
theorem dX6_common_72 : decode cX6_common 72 = .ok (.invokevirtual 337, 3) := dk_182 1 81 (dk_at dksX6_common_3 0 rfl rfl)
theorem dX6_common_75 : decode cX6_common 75 = .ok (.lreturn, 1) := dk_173 (dk_at dksX6_common_3 3 rfl rfl)
theorem dX6_common_76 : decode cX6_common 76 = .ok (.iconst (-1), 1) := dk_2 (dk_at dksX6_common_3 4 rfl rfl)
theorem dX6_common_77 : decode cX6_common 77 = .ok (.istore 4, 2) := dk_54 4 (dk_at dksX6_common_3 5 rfl rfl)
theorem dX6_common_79 : decode cX6_common 79 = .ok (.lconst 0, 1) := dk_9 (dk_at dksX6_common_3 7 rfl rfl)
theorem dX6_common_80 : decode cX6_common 80 = .ok (.lstore 5, 2) := dk_55 5 (dk_at dksX6_common_3 8 rfl rfl)
theorem dX6_common_82 : decode cX6_common 82 = .ok (.iconst 1, 1) := dk_4 (dk_at dksX6_common_3 10 rfl rfl)
theorem dX6_common_83 : decode cX6_common 83 = .ok (.istore 7, 2) := dk_54 7 (dk_at dksX6_common_3 11 rfl rfl)
theorem dX6_common_85 : decode cX6_common 85 = .ok (.iload 7, 2) := dk_21 7 (dk_at dksX6_common_3 13 rfl rfl)
theorem dX6_common_87 : decode cX6_common 87 = .ok (.bipush 9, 2) := dk_16 9 (dk_at dksX6_common_3 15 rfl rfl)
theorem dX6_common_89 : decode cX6_common 89 = .ok (.if_icmp .gt 54, 3) := dk_163 0 54 (dk_at dksX6_common_3 17 rfl rfl)
theorem dX6_common_92 : decode cX6_common 92 = .ok (.aload_n 0, 1) := dk_42 (dk_at dksX6_common_3 20 rfl rfl)
theorem dX6_common_93 : decode cX6_common 93 = .ok (.iload_n 1, 1) := dk_27 (dk_at dksX6_common_3 21 rfl rfl)
theorem dX6_common_94 : decode cX6_common 94 = .ok (.iload 7, 2) := dk_21 7 (dk_at dksX6_common_3 22 rfl rfl)
theorem dX6_common_96 : decode cX6_common 96 = .ok (.iload_n 3, 1) := dk_29 (dk_at dksX6_common_4 0 rfl rfl)
theorem dX6_common_97 : decode cX6_common 97 = .ok (.invokevirtual 332, 3) := dk_182 1 76 (dk_at dksX6_common_4 1 rfl rfl)
theorem dX6_common_100 : decode cX6_common 100 = .ok (.iload 4, 2) := dk_21 4 (dk_at dksX6_common_4 4 rfl rfl)
theorem dX6_common_102 : decode cX6_common 102 = .ok (.iconst (-1), 1) := dk_2 (dk_at dksX6_common_4 6 rfl rfl)
theorem dX6_common_103 : decode cX6_common 103 = .ok (.if_icmp .eq 20, 3) := dk_159 0 20 (dk_at dksX6_common_4 7 rfl rfl)
theorem dX6_common_106 : decode cX6_common 106 = .ok (.aload_n 0, 1) := dk_42 (dk_at dksX6_common_4 10 rfl rfl)
theorem dX6_common_107 : decode cX6_common 107 = .ok (.aload_n 0, 1) := dk_42 (dk_at dksX6_common_4 11 rfl rfl)
theorem dX6_common_108 : decode cX6_common 108 = .ok (.getfield 315, 3) := dk_180 1 59 (dk_at dksX6_common_4 12 rfl rfl)
theorem dX6_common_111 : decode cX6_common 111 = .ok (.invokevirtual 337, 3) := dk_182 1 81 (dk_at dksX6_common_4 15 rfl rfl)
theorem dX6_common_114 : decode cX6_common 114 = .ok (.lload 5, 2) := dk_22 5 (dk_at dksX6_common_4 18 rfl rfl)
theorem dX6_common_116 : decode cX6_common 116 = .ok (.lcmp, 1) := dk_148 (dk_at dksX6_common_4 20 rfl rfl)
theorem dX6_common_117 : decode cX6_common 117 = .ok (.ifCond .gt 6, 3) := dk_157 0 6 (dk_at dksX6_common_4 21 rfl rfl)
theorem dX6_common_120 : decode cX6_common 120 = .ok (.goto 17, 3) := dk_167 0 17 (dk_at dksX6_common_5 0 rfl rfl)
theorem dX6_common_123 : decode cX6_common 123 = .ok (.iload 7, 2) := dk_21 7 (dk_at dksX6_common_5 3 rfl rfl)
theorem dX6_common_125 : decode cX6_common 125 = .ok (.istore 4, 2) := dk_54 4 (dk_at dksX6_common_5 5 rfl rfl)
theorem dX6_common_127 : decode cX6_common 127 = .ok (.aload_n 0, 1) := dk_42 (dk_at dksX6_common_5 7 rfl rfl)
theorem dX6_common_128 : decode cX6_common 128 = .ok (.aload_n 0, 1) := dk_42 (dk_at dksX6_common_5 8 rfl rfl)
theorem dX6_common_129 : decode cX6_common 129 = .ok (.getfield 315, 3) := dk_180 1 59 (dk_at dksX6_common_5 9 rfl rfl)
theorem dX6_common_132 : decode cX6_common 132 = .ok (.invokevirtual 337, 3) := dk_182 1 81 (dk_at dksX6_common_5 12 rfl rfl)
theorem dX6_common_135 : decode cX6_common 135 = .ok (.lstore 5, 2) := dk_55 5 (dk_at dksX6_common_5 15 rfl rfl)
theorem dX6_common_137 : decode cX6_common 137 = .ok (.iinc 7 1, 3) := dk_132 7 1 (dk_at dksX6_common_5 17 rfl rfl)
theorem dX6_common_140 : decode cX6_common 140 = .ok (.goto (-55), 3) := dk_167 255 201 (dk_at dksX6_common_5 20 rfl rfl)
theorem dX6_common_143 : decode cX6_common 143 = .ok (.iload 4, 2) := dk_21 4 (dk_at dksX6_common_6 0 rfl rfl)
theorem dX6_common_145 : decode cX6_common 145 = .ok (.i2l, 1) := dk_133 (dk_at dksX6_common_6 2 rfl rfl)
theorem dX6_common_146 : decode cX6_common 146 = .ok (.lreturn, 1) := dk_173 (dk_at dksX6_common_6 3 rfl rfl)
abbrev cX6_millions : ByteArray := prog_17_method_67_code
def yX6_millions : MethodName := ⟨RX6, "millions", "(J)J"⟩
def dkwX6_millions_1 : List UInt8 := [101, 167, 0, 4, 33, 173]
abbrev dktX6_millions_1 : List UInt8 := dkwX6_millions_1 ++ []
def dkwX6_millions_0 : List UInt8 := [31, 20, 1, 79, 109, 66, 31, 9, 148, 156, 0, 19, 31, 20, 1, 79, 113, 9, 148, 153, 0, 9, 33, 10]
abbrev dktX6_millions_0 : List UInt8 := dkwX6_millions_0 ++ dktX6_millions_1
theorem dksX6_millions_0 : cX6_millions.data.toList.drop 0 = dktX6_millions_0 := by decide +kernel
theorem dksX6_millions_1 : cX6_millions.data.toList.drop 24 = dktX6_millions_1 := dk_seg dksX6_millions_0 24 rfl rfl
theorem dX6_millions_0 : decode cX6_millions 0 = .ok (.lload_n 1, 1) := dk_31 (dk_at dksX6_millions_0 0 rfl rfl)
theorem dX6_millions_1 : decode cX6_millions 1 = .ok (.ldc2_w 335, 3) := dk_20 1 79 (dk_at dksX6_millions_0 1 rfl rfl)
theorem dX6_millions_4 : decode cX6_millions 4 = .ok (.ldiv, 1) := dk_109 (dk_at dksX6_millions_0 4 rfl rfl)
theorem dX6_millions_5 : decode cX6_millions 5 = .ok (.lstore_n 3, 1) := dk_66 (dk_at dksX6_millions_0 5 rfl rfl)
theorem dX6_millions_6 : decode cX6_millions 6 = .ok (.lload_n 1, 1) := dk_31 (dk_at dksX6_millions_0 6 rfl rfl)
theorem dX6_millions_7 : decode cX6_millions 7 = .ok (.lconst 0, 1) := dk_9 (dk_at dksX6_millions_0 7 rfl rfl)
theorem dX6_millions_8 : decode cX6_millions 8 = .ok (.lcmp, 1) := dk_148 (dk_at dksX6_millions_0 8 rfl rfl)
theorem dX6_millions_9 : decode cX6_millions 9 = .ok (.ifCond .ge 19, 3) := dk_156 0 19 (dk_at dksX6_millions_0 9 rfl rfl)
theorem dX6_millions_12 : decode cX6_millions 12 = .ok (.lload_n 1, 1) := dk_31 (dk_at dksX6_millions_0 12 rfl rfl)
theorem dX6_millions_13 : decode cX6_millions 13 = .ok (.ldc2_w 335, 3) := dk_20 1 79 (dk_at dksX6_millions_0 13 rfl rfl)
theorem dX6_millions_16 : decode cX6_millions 16 = .ok (.lrem, 1) := dk_113 (dk_at dksX6_millions_0 16 rfl rfl)
theorem dX6_millions_17 : decode cX6_millions 17 = .ok (.lconst 0, 1) := dk_9 (dk_at dksX6_millions_0 17 rfl rfl)
theorem dX6_millions_18 : decode cX6_millions 18 = .ok (.lcmp, 1) := dk_148 (dk_at dksX6_millions_0 18 rfl rfl)
theorem dX6_millions_19 : decode cX6_millions 19 = .ok (.ifCond .eq 9, 3) := dk_153 0 9 (dk_at dksX6_millions_0 19 rfl rfl)
theorem dX6_millions_22 : decode cX6_millions 22 = .ok (.lload_n 3, 1) := dk_33 (dk_at dksX6_millions_0 22 rfl rfl)
theorem dX6_millions_23 : decode cX6_millions 23 = .ok (.lconst 1, 1) := dk_10 (dk_at dksX6_millions_0 23 rfl rfl)
theorem dX6_millions_24 : decode cX6_millions 24 = .ok (.lsub, 1) := dk_101 (dk_at dksX6_millions_1 0 rfl rfl)
theorem dX6_millions_25 : decode cX6_millions 25 = .ok (.goto 4, 3) := dk_167 0 4 (dk_at dksX6_millions_1 1 rfl rfl)
theorem dX6_millions_28 : decode cX6_millions 28 = .ok (.lload_n 3, 1) := dk_33 (dk_at dksX6_millions_1 4 rfl rfl)
theorem dX6_millions_29 : decode cX6_millions 29 = .ok (.lreturn, 1) := dk_173 (dk_at dksX6_millions_1 5 rfl rfl)
abbrev cX6_pair : ByteArray := prog_17_method_75_code
def yX6_pair : MethodName := ⟨RX6, "pair", "(IIIIIII)J"⟩
def dkwX6_pair_3 : List UInt8 := [21, 7, 154, 0, 10, 42, 180, 1, 99, 167, 0, 7, 42, 180, 1, 102, 173]
abbrev dktX6_pair_3 : List UInt8 := dkwX6_pair_3 ++ []
def dkwX6_pair_2 : List UInt8 := [182, 0, 109, 154, 0, 7, 20, 1, 44, 173, 42, 27, 28, 29, 21, 4, 21, 5, 21, 6, 182, 1, 112]
abbrev dktX6_pair_2 : List UInt8 := dkwX6_pair_2 ++ dktX6_pair_3
def dkwX6_pair_1 : List UInt8 := [182, 0, 109, 153, 0, 26, 42, 21, 6, 4, 16, 13, 182, 0, 109, 153, 0, 14, 42, 21, 7, 3, 4]
abbrev dktX6_pair_1 : List UInt8 := dkwX6_pair_1 ++ dktX6_pair_2
def dkwX6_pair_0 : List UInt8 := [42, 3, 181, 0, 90, 42, 27, 28, 29, 21, 4, 182, 1, 108, 153, 0, 38, 42, 21, 5, 4, 16, 13]
abbrev dktX6_pair_0 : List UInt8 := dkwX6_pair_0 ++ dktX6_pair_1
theorem dksX6_pair_0 : cX6_pair.data.toList.drop 0 = dktX6_pair_0 := by decide +kernel
theorem dksX6_pair_1 : cX6_pair.data.toList.drop 23 = dktX6_pair_1 := dk_seg dksX6_pair_0 23 rfl rfl
theorem dksX6_pair_2 : cX6_pair.data.toList.drop 46 = dktX6_pair_2 := dk_seg dksX6_pair_1 23 rfl rfl
theorem dksX6_pair_3 : cX6_pair.data.toList.drop 69 = dktX6_pair_3 := dk_seg dksX6_pair_2 23 rfl rfl
theorem dX6_pair_0 : decode cX6_pair 0 = .ok (.aload_n 0, 1) := dk_42 (dk_at dksX6_pair_0 0 rfl rfl)
theorem dX6_pair_1 : decode cX6_pair 1 = .ok (.iconst 0, 1) := dk_3 (dk_at dksX6_pair_0 1 rfl rfl)
theorem dX6_pair_2 : decode cX6_pair 2 = .ok (.putfield 90, 3) := dk_181 0 90 (dk_at dksX6_pair_0 2 rfl rfl)
theorem dX6_pair_5 : decode cX6_pair 5 = .ok (.aload_n 0, 1) := dk_42 (dk_at dksX6_pair_0 5 rfl rfl)
theorem dX6_pair_6 : decode cX6_pair 6 = .ok (.iload_n 1, 1) := dk_27 (dk_at dksX6_pair_0 6 rfl rfl)
theorem dX6_pair_7 : decode cX6_pair 7 = .ok (.iload_n 2, 1) := dk_28 (dk_at dksX6_pair_0 7 rfl rfl)
theorem dX6_pair_8 : decode cX6_pair 8 = .ok (.iload_n 3, 1) := dk_29 (dk_at dksX6_pair_0 8 rfl rfl)
theorem dX6_pair_9 : decode cX6_pair 9 = .ok (.iload 4, 2) := dk_21 4 (dk_at dksX6_pair_0 9 rfl rfl)
theorem dX6_pair_11 : decode cX6_pair 11 = .ok (.invokevirtual 364, 3) := dk_182 1 108 (dk_at dksX6_pair_0 11 rfl rfl)
theorem dX6_pair_14 : decode cX6_pair 14 = .ok (.ifCond .eq 38, 3) := dk_153 0 38 (dk_at dksX6_pair_0 14 rfl rfl)
theorem dX6_pair_17 : decode cX6_pair 17 = .ok (.aload_n 0, 1) := dk_42 (dk_at dksX6_pair_0 17 rfl rfl)
theorem dX6_pair_18 : decode cX6_pair 18 = .ok (.iload 5, 2) := dk_21 5 (dk_at dksX6_pair_0 18 rfl rfl)
theorem dX6_pair_20 : decode cX6_pair 20 = .ok (.iconst 1, 1) := dk_4 (dk_at dksX6_pair_0 20 rfl rfl)
theorem dX6_pair_21 : decode cX6_pair 21 = .ok (.bipush 13, 2) := dk_16 13 (dk_at dksX6_pair_0 21 rfl rfl)
theorem dX6_pair_23 : decode cX6_pair 23 = .ok (.invokevirtual 109, 3) := dk_182 0 109 (dk_at dksX6_pair_1 0 rfl rfl)
theorem dX6_pair_26 : decode cX6_pair 26 = .ok (.ifCond .eq 26, 3) := dk_153 0 26 (dk_at dksX6_pair_1 3 rfl rfl)
theorem dX6_pair_29 : decode cX6_pair 29 = .ok (.aload_n 0, 1) := dk_42 (dk_at dksX6_pair_1 6 rfl rfl)
theorem dX6_pair_30 : decode cX6_pair 30 = .ok (.iload 6, 2) := dk_21 6 (dk_at dksX6_pair_1 7 rfl rfl)
theorem dX6_pair_32 : decode cX6_pair 32 = .ok (.iconst 1, 1) := dk_4 (dk_at dksX6_pair_1 9 rfl rfl)
theorem dX6_pair_33 : decode cX6_pair 33 = .ok (.bipush 13, 2) := dk_16 13 (dk_at dksX6_pair_1 10 rfl rfl)
theorem dX6_pair_35 : decode cX6_pair 35 = .ok (.invokevirtual 109, 3) := dk_182 0 109 (dk_at dksX6_pair_1 12 rfl rfl)
theorem dX6_pair_38 : decode cX6_pair 38 = .ok (.ifCond .eq 14, 3) := dk_153 0 14 (dk_at dksX6_pair_1 15 rfl rfl)
theorem dX6_pair_41 : decode cX6_pair 41 = .ok (.aload_n 0, 1) := dk_42 (dk_at dksX6_pair_1 18 rfl rfl)
theorem dX6_pair_42 : decode cX6_pair 42 = .ok (.iload 7, 2) := dk_21 7 (dk_at dksX6_pair_1 19 rfl rfl)
theorem dX6_pair_44 : decode cX6_pair 44 = .ok (.iconst 0, 1) := dk_3 (dk_at dksX6_pair_1 21 rfl rfl)
theorem dX6_pair_45 : decode cX6_pair 45 = .ok (.iconst 1, 1) := dk_4 (dk_at dksX6_pair_1 22 rfl rfl)
theorem dX6_pair_46 : decode cX6_pair 46 = .ok (.invokevirtual 109, 3) := dk_182 0 109 (dk_at dksX6_pair_2 0 rfl rfl)
theorem dX6_pair_49 : decode cX6_pair 49 = .ok (.ifCond .ne 7, 3) := dk_154 0 7 (dk_at dksX6_pair_2 3 rfl rfl)
theorem dX6_pair_52 : decode cX6_pair 52 = .ok (.ldc2_w 300, 3) := dk_20 1 44 (dk_at dksX6_pair_2 6 rfl rfl)
theorem dX6_pair_55 : decode cX6_pair 55 = .ok (.lreturn, 1) := dk_173 (dk_at dksX6_pair_2 9 rfl rfl)
theorem dX6_pair_56 : decode cX6_pair 56 = .ok (.aload_n 0, 1) := dk_42 (dk_at dksX6_pair_2 10 rfl rfl)
theorem dX6_pair_57 : decode cX6_pair 57 = .ok (.iload_n 1, 1) := dk_27 (dk_at dksX6_pair_2 11 rfl rfl)
theorem dX6_pair_58 : decode cX6_pair 58 = .ok (.iload_n 2, 1) := dk_28 (dk_at dksX6_pair_2 12 rfl rfl)
theorem dX6_pair_59 : decode cX6_pair 59 = .ok (.iload_n 3, 1) := dk_29 (dk_at dksX6_pair_2 13 rfl rfl)
theorem dX6_pair_60 : decode cX6_pair 60 = .ok (.iload 4, 2) := dk_21 4 (dk_at dksX6_pair_2 14 rfl rfl)
theorem dX6_pair_62 : decode cX6_pair 62 = .ok (.iload 5, 2) := dk_21 5 (dk_at dksX6_pair_2 16 rfl rfl)
theorem dX6_pair_64 : decode cX6_pair 64 = .ok (.iload 6, 2) := dk_21 6 (dk_at dksX6_pair_2 18 rfl rfl)
theorem dX6_pair_66 : decode cX6_pair 66 = .ok (.invokevirtual 368, 3) := dk_182 1 112 (dk_at dksX6_pair_2 20 rfl rfl)
theorem dX6_pair_69 : decode cX6_pair 69 = .ok (.iload 7, 2) := dk_21 7 (dk_at dksX6_pair_3 0 rfl rfl)
theorem dX6_pair_71 : decode cX6_pair 71 = .ok (.ifCond .ne 10, 3) := dk_154 0 10 (dk_at dksX6_pair_3 2 rfl rfl)
theorem dX6_pair_74 : decode cX6_pair 74 = .ok (.aload_n 0, 1) := dk_42 (dk_at dksX6_pair_3 5 rfl rfl)
theorem dX6_pair_75 : decode cX6_pair 75 = .ok (.getfield 355, 3) := dk_180 1 99 (dk_at dksX6_pair_3 6 rfl rfl)
theorem dX6_pair_78 : decode cX6_pair 78 = .ok (.goto 7, 3) := dk_167 0 7 (dk_at dksX6_pair_3 9 rfl rfl)
theorem dX6_pair_81 : decode cX6_pair 81 = .ok (.aload_n 0, 1) := dk_42 (dk_at dksX6_pair_3 12 rfl rfl)
theorem dX6_pair_82 : decode cX6_pair 82 = .ok (.getfield 358, 3) := dk_180 1 102 (dk_at dksX6_pair_3 13 rfl rfl)
theorem dX6_pair_85 : decode cX6_pair 85 = .ok (.lreturn, 1) := dk_173 (dk_at dksX6_pair_3 16 rfl rfl)
abbrev cX6_canPair : ByteArray := prog_17_method_74_code
def yX6_canPair : MethodName := ⟨RX6, "canPair", "(IIII)Z"⟩
def dkwX6_canPair_2 : List UInt8 := [182, 1, 22, 158, 0, 7, 4, 167, 0, 4, 3, 172]
abbrev dktX6_canPair_2 : List UInt8 := dkwX6_canPair_2 ++ []
def dkwX6_canPair_1 : List UInt8 := [3, 16, 8, 182, 0, 109, 153, 0, 26, 42, 21, 4, 4, 16, 9, 182, 0, 109, 153, 0, 14, 42]
abbrev dktX6_canPair_1 : List UInt8 := dkwX6_canPair_1 ++ dktX6_canPair_2
def dkwX6_canPair_0 : List UInt8 := [42, 27, 4, 16, 20, 182, 0, 109, 153, 0, 48, 42, 28, 3, 16, 8, 182, 0, 109, 153, 0, 37, 42, 29]
abbrev dktX6_canPair_0 : List UInt8 := dkwX6_canPair_0 ++ dktX6_canPair_1
theorem dksX6_canPair_0 : cX6_canPair.data.toList.drop 0 = dktX6_canPair_0 := by decide +kernel
theorem dksX6_canPair_1 : cX6_canPair.data.toList.drop 24 = dktX6_canPair_1 := dk_seg dksX6_canPair_0 24 rfl rfl
theorem dksX6_canPair_2 : cX6_canPair.data.toList.drop 46 = dktX6_canPair_2 := dk_seg dksX6_canPair_1 22 rfl rfl
theorem dX6_canPair_0 : decode cX6_canPair 0 = .ok (.aload_n 0, 1) := dk_42 (dk_at dksX6_canPair_0 0 rfl rfl)
theorem dX6_canPair_1 : decode cX6_canPair 1 = .ok (.iload_n 1, 1) := dk_27 (dk_at dksX6_canPair_0 1 rfl rfl)
theorem dX6_canPair_2 : decode cX6_canPair 2 = .ok (.iconst 1, 1) := dk_4 (dk_at dksX6_canPair_0 2 rfl rfl)
theorem dX6_canPair_3 : decode cX6_canPair 3 = .ok (.bipush 20, 2) := dk_16 20 (dk_at dksX6_canPair_0 3 rfl rfl)
theorem dX6_canPair_5 : decode cX6_canPair 5 = .ok (.invokevirtual 109, 3) := dk_182 0 109 (dk_at dksX6_canPair_0 5 rfl rfl)
theorem dX6_canPair_8 : decode cX6_canPair 8 = .ok (.ifCond .eq 48, 3) := dk_153 0 48 (dk_at dksX6_canPair_0 8 rfl rfl)
theorem dX6_canPair_11 : decode cX6_canPair 11 = .ok (.aload_n 0, 1) := dk_42 (dk_at dksX6_canPair_0 11 rfl rfl)
theorem dX6_canPair_12 : decode cX6_canPair 12 = .ok (.iload_n 2, 1) := dk_28 (dk_at dksX6_canPair_0 12 rfl rfl)
theorem dX6_canPair_13 : decode cX6_canPair 13 = .ok (.iconst 0, 1) := dk_3 (dk_at dksX6_canPair_0 13 rfl rfl)
theorem dX6_canPair_14 : decode cX6_canPair 14 = .ok (.bipush 8, 2) := dk_16 8 (dk_at dksX6_canPair_0 14 rfl rfl)
theorem dX6_canPair_16 : decode cX6_canPair 16 = .ok (.invokevirtual 109, 3) := dk_182 0 109 (dk_at dksX6_canPair_0 16 rfl rfl)
theorem dX6_canPair_19 : decode cX6_canPair 19 = .ok (.ifCond .eq 37, 3) := dk_153 0 37 (dk_at dksX6_canPair_0 19 rfl rfl)
theorem dX6_canPair_22 : decode cX6_canPair 22 = .ok (.aload_n 0, 1) := dk_42 (dk_at dksX6_canPair_0 22 rfl rfl)
theorem dX6_canPair_23 : decode cX6_canPair 23 = .ok (.iload_n 3, 1) := dk_29 (dk_at dksX6_canPair_0 23 rfl rfl)
theorem dX6_canPair_24 : decode cX6_canPair 24 = .ok (.iconst 0, 1) := dk_3 (dk_at dksX6_canPair_1 0 rfl rfl)
theorem dX6_canPair_25 : decode cX6_canPair 25 = .ok (.bipush 8, 2) := dk_16 8 (dk_at dksX6_canPair_1 1 rfl rfl)
theorem dX6_canPair_27 : decode cX6_canPair 27 = .ok (.invokevirtual 109, 3) := dk_182 0 109 (dk_at dksX6_canPair_1 3 rfl rfl)
theorem dX6_canPair_30 : decode cX6_canPair 30 = .ok (.ifCond .eq 26, 3) := dk_153 0 26 (dk_at dksX6_canPair_1 6 rfl rfl)
theorem dX6_canPair_33 : decode cX6_canPair 33 = .ok (.aload_n 0, 1) := dk_42 (dk_at dksX6_canPair_1 9 rfl rfl)
theorem dX6_canPair_34 : decode cX6_canPair 34 = .ok (.iload 4, 2) := dk_21 4 (dk_at dksX6_canPair_1 10 rfl rfl)
theorem dX6_canPair_36 : decode cX6_canPair 36 = .ok (.iconst 1, 1) := dk_4 (dk_at dksX6_canPair_1 12 rfl rfl)
theorem dX6_canPair_37 : decode cX6_canPair 37 = .ok (.bipush 9, 2) := dk_16 9 (dk_at dksX6_canPair_1 13 rfl rfl)
theorem dX6_canPair_39 : decode cX6_canPair 39 = .ok (.invokevirtual 109, 3) := dk_182 0 109 (dk_at dksX6_canPair_1 15 rfl rfl)
theorem dX6_canPair_42 : decode cX6_canPair 42 = .ok (.ifCond .eq 14, 3) := dk_153 0 14 (dk_at dksX6_canPair_1 18 rfl rfl)
theorem dX6_canPair_45 : decode cX6_canPair 45 = .ok (.aload_n 0, 1) := dk_42 (dk_at dksX6_canPair_1 21 rfl rfl)
theorem dX6_canPair_46 : decode cX6_canPair 46 = .ok (.invokevirtual 278, 3) := dk_182 1 22 (dk_at dksX6_canPair_2 0 rfl rfl)
theorem dX6_canPair_49 : decode cX6_canPair 49 = .ok (.ifCond .le 7, 3) := dk_158 0 7 (dk_at dksX6_canPair_2 3 rfl rfl)
theorem dX6_canPair_52 : decode cX6_canPair 52 = .ok (.iconst 1, 1) := dk_4 (dk_at dksX6_canPair_2 6 rfl rfl)
theorem dX6_canPair_53 : decode cX6_canPair 53 = .ok (.goto 4, 3) := dk_167 0 4 (dk_at dksX6_canPair_2 7 rfl rfl)
theorem dX6_canPair_56 : decode cX6_canPair 56 = .ok (.iconst 0, 1) := dk_3 (dk_at dksX6_canPair_2 10 rfl rfl)
theorem dX6_canPair_57 : decode cX6_canPair 57 = .ok (.ireturn, 1) := dk_172 (dk_at dksX6_canPair_2 11 rfl rfl)
abbrev cX6_pairs : ByteArray := prog_17_method_73_code
def yX6_pairs : MethodName := ⟨RX6, "pairs", "(IIIIII)V"⟩
def dkwX6_pairs_4 : List UInt8 := [182, 1, 81, 97, 181, 1, 102, 132, 7, 1, 167, 255, 203, 177]
abbrev dktX6_pairs_4 : List UInt8 := dkwX6_pairs_4 ++ []
def dkwX6_pairs_3 : List UInt8 := [42, 42, 180, 1, 89, 182, 1, 81, 97, 181, 1, 99, 42, 42, 180, 1, 102, 42, 42, 180, 1, 92]
abbrev dktX6_pairs_3 : List UInt8 := dkwX6_pairs_3 ++ dktX6_pairs_4
def dkwX6_pairs_2 : List UInt8 := [3, 54, 7, 21, 7, 27, 162, 0, 53, 42, 21, 4, 21, 5, 21, 6, 182, 1, 105, 42, 42, 180, 1, 99]
abbrev dktX6_pairs_2 : List UInt8 := dkwX6_pairs_2 ++ dktX6_pairs_3
def dkwX6_pairs_1 : List UInt8 := [42, 180, 0, 69, 16, 9, 28, 104, 29, 96, 20, 1, 69, 80, 42, 9, 181, 1, 99, 42, 9, 181, 1, 102]
abbrev dktX6_pairs_1 : List UInt8 := dkwX6_pairs_1 ++ dktX6_pairs_2
def dkwX6_pairs_0 : List UInt8 := [3, 54, 7, 21, 7, 16, 81, 162, 0, 17, 42, 180, 0, 69, 21, 7, 9, 80, 132, 7, 1, 167, 255, 238]
abbrev dktX6_pairs_0 : List UInt8 := dkwX6_pairs_0 ++ dktX6_pairs_1
theorem dksX6_pairs_0 : cX6_pairs.data.toList.drop 0 = dktX6_pairs_0 := by decide +kernel
theorem dksX6_pairs_1 : cX6_pairs.data.toList.drop 24 = dktX6_pairs_1 := dk_seg dksX6_pairs_0 24 rfl rfl
theorem dksX6_pairs_2 : cX6_pairs.data.toList.drop 48 = dktX6_pairs_2 := dk_seg dksX6_pairs_1 24 rfl rfl
theorem dksX6_pairs_3 : cX6_pairs.data.toList.drop 72 = dktX6_pairs_3 := dk_seg dksX6_pairs_2 24 rfl rfl
theorem dksX6_pairs_4 : cX6_pairs.data.toList.drop 94 = dktX6_pairs_4 := dk_seg dksX6_pairs_3 22 rfl rfl
theorem dX6_pairs_0 : decode cX6_pairs 0 = .ok (.iconst 0, 1) := dk_3 (dk_at dksX6_pairs_0 0 rfl rfl)
theorem dX6_pairs_1 : decode cX6_pairs 1 = .ok (.istore 7, 2) := dk_54 7 (dk_at dksX6_pairs_0 1 rfl rfl)
theorem dX6_pairs_3 : decode cX6_pairs 3 = .ok (.iload 7, 2) := dk_21 7 (dk_at dksX6_pairs_0 3 rfl rfl)
theorem dX6_pairs_5 : decode cX6_pairs 5 = .ok (.bipush 81, 2) := dk_16 81 (dk_at dksX6_pairs_0 5 rfl rfl)
theorem dX6_pairs_7 : decode cX6_pairs 7 = .ok (.if_icmp .ge 17, 3) := dk_162 0 17 (dk_at dksX6_pairs_0 7 rfl rfl)
theorem dX6_pairs_10 : decode cX6_pairs 10 = .ok (.aload_n 0, 1) := dk_42 (dk_at dksX6_pairs_0 10 rfl rfl)
theorem dX6_pairs_11 : decode cX6_pairs 11 = .ok (.getfield 69, 3) := dk_180 0 69 (dk_at dksX6_pairs_0 11 rfl rfl)
theorem dX6_pairs_14 : decode cX6_pairs 14 = .ok (.iload 7, 2) := dk_21 7 (dk_at dksX6_pairs_0 14 rfl rfl)
theorem dX6_pairs_16 : decode cX6_pairs 16 = .ok (.lconst 0, 1) := dk_9 (dk_at dksX6_pairs_0 16 rfl rfl)
theorem dX6_pairs_17 : decode cX6_pairs 17 = .ok (.lastore, 1) := dk_80 (dk_at dksX6_pairs_0 17 rfl rfl)
theorem dX6_pairs_18 : decode cX6_pairs 18 = .ok (.iinc 7 1, 3) := dk_132 7 1 (dk_at dksX6_pairs_0 18 rfl rfl)
theorem dX6_pairs_21 : decode cX6_pairs 21 = .ok (.goto (-18), 3) := dk_167 255 238 (dk_at dksX6_pairs_0 21 rfl rfl)
theorem dX6_pairs_24 : decode cX6_pairs 24 = .ok (.aload_n 0, 1) := dk_42 (dk_at dksX6_pairs_1 0 rfl rfl)
theorem dX6_pairs_25 : decode cX6_pairs 25 = .ok (.getfield 69, 3) := dk_180 0 69 (dk_at dksX6_pairs_1 1 rfl rfl)
theorem dX6_pairs_28 : decode cX6_pairs 28 = .ok (.bipush 9, 2) := dk_16 9 (dk_at dksX6_pairs_1 4 rfl rfl)
theorem dX6_pairs_30 : decode cX6_pairs 30 = .ok (.iload_n 2, 1) := dk_28 (dk_at dksX6_pairs_1 6 rfl rfl)
theorem dX6_pairs_31 : decode cX6_pairs 31 = .ok (.imul, 1) := dk_104 (dk_at dksX6_pairs_1 7 rfl rfl)
theorem dX6_pairs_32 : decode cX6_pairs 32 = .ok (.iload_n 3, 1) := dk_29 (dk_at dksX6_pairs_1 8 rfl rfl)
theorem dX6_pairs_33 : decode cX6_pairs 33 = .ok (.iadd, 1) := dk_96 (dk_at dksX6_pairs_1 9 rfl rfl)
theorem dX6_pairs_34 : decode cX6_pairs 34 = .ok (.ldc2_w 325, 3) := dk_20 1 69 (dk_at dksX6_pairs_1 10 rfl rfl)
theorem dX6_pairs_37 : decode cX6_pairs 37 = .ok (.lastore, 1) := dk_80 (dk_at dksX6_pairs_1 13 rfl rfl)
theorem dX6_pairs_38 : decode cX6_pairs 38 = .ok (.aload_n 0, 1) := dk_42 (dk_at dksX6_pairs_1 14 rfl rfl)
theorem dX6_pairs_39 : decode cX6_pairs 39 = .ok (.lconst 0, 1) := dk_9 (dk_at dksX6_pairs_1 15 rfl rfl)
theorem dX6_pairs_40 : decode cX6_pairs 40 = .ok (.putfield 355, 3) := dk_181 1 99 (dk_at dksX6_pairs_1 16 rfl rfl)
theorem dX6_pairs_43 : decode cX6_pairs 43 = .ok (.aload_n 0, 1) := dk_42 (dk_at dksX6_pairs_1 19 rfl rfl)
theorem dX6_pairs_44 : decode cX6_pairs 44 = .ok (.lconst 0, 1) := dk_9 (dk_at dksX6_pairs_1 20 rfl rfl)
theorem dX6_pairs_45 : decode cX6_pairs 45 = .ok (.putfield 358, 3) := dk_181 1 102 (dk_at dksX6_pairs_1 21 rfl rfl)
theorem dX6_pairs_48 : decode cX6_pairs 48 = .ok (.iconst 0, 1) := dk_3 (dk_at dksX6_pairs_2 0 rfl rfl)
theorem dX6_pairs_49 : decode cX6_pairs 49 = .ok (.istore 7, 2) := dk_54 7 (dk_at dksX6_pairs_2 1 rfl rfl)
theorem dX6_pairs_51 : decode cX6_pairs 51 = .ok (.iload 7, 2) := dk_21 7 (dk_at dksX6_pairs_2 3 rfl rfl)
theorem dX6_pairs_53 : decode cX6_pairs 53 = .ok (.iload_n 1, 1) := dk_27 (dk_at dksX6_pairs_2 5 rfl rfl)
theorem dX6_pairs_54 : decode cX6_pairs 54 = .ok (.if_icmp .ge 53, 3) := dk_162 0 53 (dk_at dksX6_pairs_2 6 rfl rfl)
theorem dX6_pairs_57 : decode cX6_pairs 57 = .ok (.aload_n 0, 1) := dk_42 (dk_at dksX6_pairs_2 9 rfl rfl)
theorem dX6_pairs_58 : decode cX6_pairs 58 = .ok (.iload 4, 2) := dk_21 4 (dk_at dksX6_pairs_2 10 rfl rfl)
theorem dX6_pairs_60 : decode cX6_pairs 60 = .ok (.iload 5, 2) := dk_21 5 (dk_at dksX6_pairs_2 12 rfl rfl)
theorem dX6_pairs_62 : decode cX6_pairs 62 = .ok (.iload 6, 2) := dk_21 6 (dk_at dksX6_pairs_2 14 rfl rfl)
theorem dX6_pairs_64 : decode cX6_pairs 64 = .ok (.invokevirtual 361, 3) := dk_182 1 105 (dk_at dksX6_pairs_2 16 rfl rfl)
theorem dX6_pairs_67 : decode cX6_pairs 67 = .ok (.aload_n 0, 1) := dk_42 (dk_at dksX6_pairs_2 19 rfl rfl)
theorem dX6_pairs_68 : decode cX6_pairs 68 = .ok (.aload_n 0, 1) := dk_42 (dk_at dksX6_pairs_2 20 rfl rfl)
theorem dX6_pairs_69 : decode cX6_pairs 69 = .ok (.getfield 355, 3) := dk_180 1 99 (dk_at dksX6_pairs_2 21 rfl rfl)
theorem dX6_pairs_72 : decode cX6_pairs 72 = .ok (.aload_n 0, 1) := dk_42 (dk_at dksX6_pairs_3 0 rfl rfl)
theorem dX6_pairs_73 : decode cX6_pairs 73 = .ok (.aload_n 0, 1) := dk_42 (dk_at dksX6_pairs_3 1 rfl rfl)
theorem dX6_pairs_74 : decode cX6_pairs 74 = .ok (.getfield 345, 3) := dk_180 1 89 (dk_at dksX6_pairs_3 2 rfl rfl)
theorem dX6_pairs_77 : decode cX6_pairs 77 = .ok (.invokevirtual 337, 3) := dk_182 1 81 (dk_at dksX6_pairs_3 5 rfl rfl)
theorem dX6_pairs_80 : decode cX6_pairs 80 = .ok (.ladd, 1) := dk_97 (dk_at dksX6_pairs_3 8 rfl rfl)
theorem dX6_pairs_81 : decode cX6_pairs 81 = .ok (.putfield 355, 3) := dk_181 1 99 (dk_at dksX6_pairs_3 9 rfl rfl)
theorem dX6_pairs_84 : decode cX6_pairs 84 = .ok (.aload_n 0, 1) := dk_42 (dk_at dksX6_pairs_3 12 rfl rfl)
theorem dX6_pairs_85 : decode cX6_pairs 85 = .ok (.aload_n 0, 1) := dk_42 (dk_at dksX6_pairs_3 13 rfl rfl)
theorem dX6_pairs_86 : decode cX6_pairs 86 = .ok (.getfield 358, 3) := dk_180 1 102 (dk_at dksX6_pairs_3 14 rfl rfl)
theorem dX6_pairs_89 : decode cX6_pairs 89 = .ok (.aload_n 0, 1) := dk_42 (dk_at dksX6_pairs_3 17 rfl rfl)
theorem dX6_pairs_90 : decode cX6_pairs 90 = .ok (.aload_n 0, 1) := dk_42 (dk_at dksX6_pairs_3 18 rfl rfl)
theorem dX6_pairs_91 : decode cX6_pairs 91 = .ok (.getfield 348, 3) := dk_180 1 92 (dk_at dksX6_pairs_3 19 rfl rfl)
theorem dX6_pairs_94 : decode cX6_pairs 94 = .ok (.invokevirtual 337, 3) := dk_182 1 81 (dk_at dksX6_pairs_4 0 rfl rfl)
theorem dX6_pairs_97 : decode cX6_pairs 97 = .ok (.ladd, 1) := dk_97 (dk_at dksX6_pairs_4 3 rfl rfl)
theorem dX6_pairs_98 : decode cX6_pairs 98 = .ok (.putfield 358, 3) := dk_181 1 102 (dk_at dksX6_pairs_4 4 rfl rfl)
theorem dX6_pairs_101 : decode cX6_pairs 101 = .ok (.iinc 7 1, 3) := dk_132 7 1 (dk_at dksX6_pairs_4 7 rfl rfl)
theorem dX6_pairs_104 : decode cX6_pairs 104 = .ok (.goto (-53), 3) := dk_167 255 203 (dk_at dksX6_pairs_4 10 rfl rfl)
theorem dX6_pairs_107 : decode cX6_pairs 107 = .ok (.return_, 1) := dk_177 (dk_at dksX6_pairs_4 13 rfl rfl)
abbrev cX6_onceMore : ByteArray := prog_17_method_72_code
def yX6_onceMore : MethodName := ⟨RX6, "onceMore", "(III)V"⟩
def dkwX6_onceMore_8 : List UInt8 := [180, 0, 69, 21, 6, 42, 180, 0, 72, 21, 6, 47, 80, 132, 6, 1, 167, 255, 232, 177]
abbrev dktX6_onceMore_8 : List UInt8 := dkwX6_onceMore_8 ++ []
def dkwX6_onceMore_7 : List UInt8 := [22, 7, 182, 1, 95, 132, 6, 1, 167, 255, 132, 3, 54, 6, 21, 6, 16, 81, 162, 0, 23, 42]
abbrev dktX6_onceMore_7 : List UInt8 := dkwX6_onceMore_7 ++ dktX6_onceMore_8
def dkwX6_onceMore_6 : List UInt8 := [55, 7, 132, 9, 1, 167, 255, 193, 42, 21, 6, 16, 9, 108, 21, 6, 16, 9, 112, 21, 5, 27, 28, 29]
abbrev dktX6_onceMore_6 : List UInt8 := dkwX6_onceMore_6 ++ dktX6_onceMore_7
def dkwX6_onceMore_5 : List UInt8 := [16, 9, 108, 21, 6, 16, 9, 112, 21, 9, 27, 28, 29, 22, 10, 182, 1, 95, 22, 7, 22, 10, 101]
abbrev dktX6_onceMore_5 : List UInt8 := dkwX6_onceMore_5 ++ dktX6_onceMore_6
def dkwX6_onceMore_4 : List UInt8 := [21, 6, 47, 42, 180, 0, 13, 16, 10, 21, 9, 96, 46, 133, 105, 21, 4, 133, 109, 55, 10, 42, 21, 6]
abbrev dktX6_onceMore_4 : List UInt8 := dkwX6_onceMore_4 ++ dktX6_onceMore_5
def dkwX6_onceMore_3 : List UInt8 := [42, 180, 0, 69, 21, 6, 47, 55, 7, 4, 54, 9, 21, 9, 21, 5, 162, 0, 62, 42, 180, 0, 69]
abbrev dktX6_onceMore_3 : List UInt8 := dkwX6_onceMore_3 ++ dktX6_onceMore_4
def dkwX6_onceMore_2 : List UInt8 := [54, 6, 21, 6, 16, 81, 162, 0, 123, 42, 180, 0, 69, 21, 6, 47, 9, 148, 154, 0, 6, 167, 0, 102]
abbrev dktX6_onceMore_2 : List UInt8 := dkwX6_onceMore_2 ++ dktX6_onceMore_3
def dkwX6_onceMore_1 : List UInt8 := [54, 6, 21, 6, 16, 81, 162, 0, 17, 42, 180, 0, 72, 21, 6, 9, 80, 132, 6, 1, 167, 255, 238, 3]
abbrev dktX6_onceMore_1 : List UInt8 := dkwX6_onceMore_1 ++ dktX6_onceMore_2
def dkwX6_onceMore_0 : List UInt8 := [42, 182, 1, 22, 54, 4, 42, 182, 1, 62, 54, 5, 42, 9, 181, 1, 89, 42, 9, 181, 1, 92, 3]
abbrev dktX6_onceMore_0 : List UInt8 := dkwX6_onceMore_0 ++ dktX6_onceMore_1
theorem dksX6_onceMore_0 : cX6_onceMore.data.toList.drop 0 = dktX6_onceMore_0 := by decide +kernel
theorem dksX6_onceMore_1 : cX6_onceMore.data.toList.drop 23 = dktX6_onceMore_1 := dk_seg dksX6_onceMore_0 23 rfl rfl
theorem dksX6_onceMore_2 : cX6_onceMore.data.toList.drop 47 = dktX6_onceMore_2 := dk_seg dksX6_onceMore_1 24 rfl rfl
theorem dksX6_onceMore_3 : cX6_onceMore.data.toList.drop 71 = dktX6_onceMore_3 := dk_seg dksX6_onceMore_2 24 rfl rfl
theorem dksX6_onceMore_4 : cX6_onceMore.data.toList.drop 94 = dktX6_onceMore_4 := dk_seg dksX6_onceMore_3 23 rfl rfl
theorem dksX6_onceMore_5 : cX6_onceMore.data.toList.drop 118 = dktX6_onceMore_5 := dk_seg dksX6_onceMore_4 24 rfl rfl
theorem dksX6_onceMore_6 : cX6_onceMore.data.toList.drop 141 = dktX6_onceMore_6 := dk_seg dksX6_onceMore_5 23 rfl rfl
theorem dksX6_onceMore_7 : cX6_onceMore.data.toList.drop 165 = dktX6_onceMore_7 := dk_seg dksX6_onceMore_6 24 rfl rfl
theorem dksX6_onceMore_8 : cX6_onceMore.data.toList.drop 187 = dktX6_onceMore_8 := dk_seg dksX6_onceMore_7 22 rfl rfl
theorem dX6_onceMore_0 : decode cX6_onceMore 0 = .ok (.aload_n 0, 1) := dk_42 (dk_at dksX6_onceMore_0 0 rfl rfl)
theorem dX6_onceMore_1 : decode cX6_onceMore 1 = .ok (.invokevirtual 278, 3) := dk_182 1 22 (dk_at dksX6_onceMore_0 1 rfl rfl)
theorem dX6_onceMore_4 : decode cX6_onceMore 4 = .ok (.istore 4, 2) := dk_54 4 (dk_at dksX6_onceMore_0 4 rfl rfl)
theorem dX6_onceMore_6 : decode cX6_onceMore 6 = .ok (.aload_n 0, 1) := dk_42 (dk_at dksX6_onceMore_0 6 rfl rfl)
theorem dX6_onceMore_7 : decode cX6_onceMore 7 = .ok (.invokevirtual 318, 3) := dk_182 1 62 (dk_at dksX6_onceMore_0 7 rfl rfl)
theorem dX6_onceMore_10 : decode cX6_onceMore 10 = .ok (.istore 5, 2) := dk_54 5 (dk_at dksX6_onceMore_0 10 rfl rfl)
theorem dX6_onceMore_12 : decode cX6_onceMore 12 = .ok (.aload_n 0, 1) := dk_42 (dk_at dksX6_onceMore_0 12 rfl rfl)
theorem dX6_onceMore_13 : decode cX6_onceMore 13 = .ok (.lconst 0, 1) := dk_9 (dk_at dksX6_onceMore_0 13 rfl rfl)
theorem dX6_onceMore_14 : decode cX6_onceMore 14 = .ok (.putfield 345, 3) := dk_181 1 89 (dk_at dksX6_onceMore_0 14 rfl rfl)
theorem dX6_onceMore_17 : decode cX6_onceMore 17 = .ok (.aload_n 0, 1) := dk_42 (dk_at dksX6_onceMore_0 17 rfl rfl)
theorem dX6_onceMore_18 : decode cX6_onceMore 18 = .ok (.lconst 0, 1) := dk_9 (dk_at dksX6_onceMore_0 18 rfl rfl)
theorem dX6_onceMore_19 : decode cX6_onceMore 19 = .ok (.putfield 348, 3) := dk_181 1 92 (dk_at dksX6_onceMore_0 19 rfl rfl)
theorem dX6_onceMore_22 : decode cX6_onceMore 22 = .ok (.iconst 0, 1) := dk_3 (dk_at dksX6_onceMore_0 22 rfl rfl)
theorem dX6_onceMore_23 : decode cX6_onceMore 23 = .ok (.istore 6, 2) := dk_54 6 (dk_at dksX6_onceMore_1 0 rfl rfl)
theorem dX6_onceMore_25 : decode cX6_onceMore 25 = .ok (.iload 6, 2) := dk_21 6 (dk_at dksX6_onceMore_1 2 rfl rfl)
theorem dX6_onceMore_27 : decode cX6_onceMore 27 = .ok (.bipush 81, 2) := dk_16 81 (dk_at dksX6_onceMore_1 4 rfl rfl)
theorem dX6_onceMore_29 : decode cX6_onceMore 29 = .ok (.if_icmp .ge 17, 3) := dk_162 0 17 (dk_at dksX6_onceMore_1 6 rfl rfl)
theorem dX6_onceMore_32 : decode cX6_onceMore 32 = .ok (.aload_n 0, 1) := dk_42 (dk_at dksX6_onceMore_1 9 rfl rfl)
theorem dX6_onceMore_33 : decode cX6_onceMore 33 = .ok (.getfield 72, 3) := dk_180 0 72 (dk_at dksX6_onceMore_1 10 rfl rfl)
theorem dX6_onceMore_36 : decode cX6_onceMore 36 = .ok (.iload 6, 2) := dk_21 6 (dk_at dksX6_onceMore_1 13 rfl rfl)
theorem dX6_onceMore_38 : decode cX6_onceMore 38 = .ok (.lconst 0, 1) := dk_9 (dk_at dksX6_onceMore_1 15 rfl rfl)
theorem dX6_onceMore_39 : decode cX6_onceMore 39 = .ok (.lastore, 1) := dk_80 (dk_at dksX6_onceMore_1 16 rfl rfl)
theorem dX6_onceMore_40 : decode cX6_onceMore 40 = .ok (.iinc 6 1, 3) := dk_132 6 1 (dk_at dksX6_onceMore_1 17 rfl rfl)
theorem dX6_onceMore_43 : decode cX6_onceMore 43 = .ok (.goto (-18), 3) := dk_167 255 238 (dk_at dksX6_onceMore_1 20 rfl rfl)
theorem dX6_onceMore_46 : decode cX6_onceMore 46 = .ok (.iconst 0, 1) := dk_3 (dk_at dksX6_onceMore_1 23 rfl rfl)
theorem dX6_onceMore_47 : decode cX6_onceMore 47 = .ok (.istore 6, 2) := dk_54 6 (dk_at dksX6_onceMore_2 0 rfl rfl)
theorem dX6_onceMore_49 : decode cX6_onceMore 49 = .ok (.iload 6, 2) := dk_21 6 (dk_at dksX6_onceMore_2 2 rfl rfl)
theorem dX6_onceMore_51 : decode cX6_onceMore 51 = .ok (.bipush 81, 2) := dk_16 81 (dk_at dksX6_onceMore_2 4 rfl rfl)
theorem dX6_onceMore_53 : decode cX6_onceMore 53 = .ok (.if_icmp .ge 123, 3) := dk_162 0 123 (dk_at dksX6_onceMore_2 6 rfl rfl)
theorem dX6_onceMore_56 : decode cX6_onceMore 56 = .ok (.aload_n 0, 1) := dk_42 (dk_at dksX6_onceMore_2 9 rfl rfl)
theorem dX6_onceMore_57 : decode cX6_onceMore 57 = .ok (.getfield 69, 3) := dk_180 0 69 (dk_at dksX6_onceMore_2 10 rfl rfl)
theorem dX6_onceMore_60 : decode cX6_onceMore 60 = .ok (.iload 6, 2) := dk_21 6 (dk_at dksX6_onceMore_2 13 rfl rfl)
theorem dX6_onceMore_62 : decode cX6_onceMore 62 = .ok (.laload, 1) := dk_47 (dk_at dksX6_onceMore_2 15 rfl rfl)
theorem dX6_onceMore_63 : decode cX6_onceMore 63 = .ok (.lconst 0, 1) := dk_9 (dk_at dksX6_onceMore_2 16 rfl rfl)
theorem dX6_onceMore_64 : decode cX6_onceMore 64 = .ok (.lcmp, 1) := dk_148 (dk_at dksX6_onceMore_2 17 rfl rfl)
theorem dX6_onceMore_65 : decode cX6_onceMore 65 = .ok (.ifCond .ne 6, 3) := dk_154 0 6 (dk_at dksX6_onceMore_2 18 rfl rfl)
theorem dX6_onceMore_68 : decode cX6_onceMore 68 = .ok (.goto 102, 3) := dk_167 0 102 (dk_at dksX6_onceMore_2 21 rfl rfl)
theorem dX6_onceMore_71 : decode cX6_onceMore 71 = .ok (.aload_n 0, 1) := dk_42 (dk_at dksX6_onceMore_3 0 rfl rfl)
theorem dX6_onceMore_72 : decode cX6_onceMore 72 = .ok (.getfield 69, 3) := dk_180 0 69 (dk_at dksX6_onceMore_3 1 rfl rfl)
theorem dX6_onceMore_75 : decode cX6_onceMore 75 = .ok (.iload 6, 2) := dk_21 6 (dk_at dksX6_onceMore_3 4 rfl rfl)
theorem dX6_onceMore_77 : decode cX6_onceMore 77 = .ok (.laload, 1) := dk_47 (dk_at dksX6_onceMore_3 6 rfl rfl)
theorem dX6_onceMore_78 : decode cX6_onceMore 78 = .ok (.lstore 7, 2) := dk_55 7 (dk_at dksX6_onceMore_3 7 rfl rfl)
theorem dX6_onceMore_80 : decode cX6_onceMore 80 = .ok (.iconst 1, 1) := dk_4 (dk_at dksX6_onceMore_3 9 rfl rfl)
theorem dX6_onceMore_81 : decode cX6_onceMore 81 = .ok (.istore 9, 2) := dk_54 9 (dk_at dksX6_onceMore_3 10 rfl rfl)
theorem dX6_onceMore_83 : decode cX6_onceMore 83 = .ok (.iload 9, 2) := dk_21 9 (dk_at dksX6_onceMore_3 12 rfl rfl)
theorem dX6_onceMore_85 : decode cX6_onceMore 85 = .ok (.iload 5, 2) := dk_21 5 (dk_at dksX6_onceMore_3 14 rfl rfl)
theorem dX6_onceMore_87 : decode cX6_onceMore 87 = .ok (.if_icmp .ge 62, 3) := dk_162 0 62 (dk_at dksX6_onceMore_3 16 rfl rfl)
theorem dX6_onceMore_90 : decode cX6_onceMore 90 = .ok (.aload_n 0, 1) := dk_42 (dk_at dksX6_onceMore_3 19 rfl rfl)
theorem dX6_onceMore_91 : decode cX6_onceMore 91 = .ok (.getfield 69, 3) := dk_180 0 69 (dk_at dksX6_onceMore_3 20 rfl rfl)
theorem dX6_onceMore_94 : decode cX6_onceMore 94 = .ok (.iload 6, 2) := dk_21 6 (dk_at dksX6_onceMore_4 0 rfl rfl)
theorem dX6_onceMore_96 : decode cX6_onceMore 96 = .ok (.laload, 1) := dk_47 (dk_at dksX6_onceMore_4 2 rfl rfl)
theorem dX6_onceMore_97 : decode cX6_onceMore 97 = .ok (.aload_n 0, 1) := dk_42 (dk_at dksX6_onceMore_4 3 rfl rfl)
theorem dX6_onceMore_98 : decode cX6_onceMore 98 = .ok (.getfield 13, 3) := dk_180 0 13 (dk_at dksX6_onceMore_4 4 rfl rfl)
theorem dX6_onceMore_101 : decode cX6_onceMore 101 = .ok (.bipush 10, 2) := dk_16 10 (dk_at dksX6_onceMore_4 7 rfl rfl)
theorem dX6_onceMore_103 : decode cX6_onceMore 103 = .ok (.iload 9, 2) := dk_21 9 (dk_at dksX6_onceMore_4 9 rfl rfl)
theorem dX6_onceMore_105 : decode cX6_onceMore 105 = .ok (.iadd, 1) := dk_96 (dk_at dksX6_onceMore_4 11 rfl rfl)
theorem dX6_onceMore_106 : decode cX6_onceMore 106 = .ok (.iaload, 1) := dk_46 (dk_at dksX6_onceMore_4 12 rfl rfl)
theorem dX6_onceMore_107 : decode cX6_onceMore 107 = .ok (.i2l, 1) := dk_133 (dk_at dksX6_onceMore_4 13 rfl rfl)
theorem dX6_onceMore_108 : decode cX6_onceMore 108 = .ok (.lmul, 1) := dk_105 (dk_at dksX6_onceMore_4 14 rfl rfl)
theorem dX6_onceMore_109 : decode cX6_onceMore 109 = .ok (.iload 4, 2) := dk_21 4 (dk_at dksX6_onceMore_4 15 rfl rfl)
theorem dX6_onceMore_111 : decode cX6_onceMore 111 = .ok (.i2l, 1) := dk_133 (dk_at dksX6_onceMore_4 17 rfl rfl)
theorem dX6_onceMore_112 : decode cX6_onceMore 112 = .ok (.ldiv, 1) := dk_109 (dk_at dksX6_onceMore_4 18 rfl rfl)
theorem dX6_onceMore_113 : decode cX6_onceMore 113 = .ok (.lstore 10, 2) := dk_55 10 (dk_at dksX6_onceMore_4 19 rfl rfl)
theorem dX6_onceMore_115 : decode cX6_onceMore 115 = .ok (.aload_n 0, 1) := dk_42 (dk_at dksX6_onceMore_4 21 rfl rfl)
theorem dX6_onceMore_116 : decode cX6_onceMore 116 = .ok (.iload 6, 2) := dk_21 6 (dk_at dksX6_onceMore_4 22 rfl rfl)
theorem dX6_onceMore_118 : decode cX6_onceMore 118 = .ok (.bipush 9, 2) := dk_16 9 (dk_at dksX6_onceMore_5 0 rfl rfl)
theorem dX6_onceMore_120 : decode cX6_onceMore 120 = .ok (.idiv, 1) := dk_108 (dk_at dksX6_onceMore_5 2 rfl rfl)
theorem dX6_onceMore_121 : decode cX6_onceMore 121 = .ok (.iload 6, 2) := dk_21 6 (dk_at dksX6_onceMore_5 3 rfl rfl)
theorem dX6_onceMore_123 : decode cX6_onceMore 123 = .ok (.bipush 9, 2) := dk_16 9 (dk_at dksX6_onceMore_5 5 rfl rfl)
theorem dX6_onceMore_125 : decode cX6_onceMore 125 = .ok (.irem, 1) := dk_112 (dk_at dksX6_onceMore_5 7 rfl rfl)
theorem dX6_onceMore_126 : decode cX6_onceMore 126 = .ok (.iload 9, 2) := dk_21 9 (dk_at dksX6_onceMore_5 8 rfl rfl)
theorem dX6_onceMore_128 : decode cX6_onceMore 128 = .ok (.iload_n 1, 1) := dk_27 (dk_at dksX6_onceMore_5 10 rfl rfl)
theorem dX6_onceMore_129 : decode cX6_onceMore 129 = .ok (.iload_n 2, 1) := dk_28 (dk_at dksX6_onceMore_5 11 rfl rfl)
theorem dX6_onceMore_130 : decode cX6_onceMore 130 = .ok (.iload_n 3, 1) := dk_29 (dk_at dksX6_onceMore_5 12 rfl rfl)
theorem dX6_onceMore_131 : decode cX6_onceMore 131 = .ok (.lload 10, 2) := dk_22 10 (dk_at dksX6_onceMore_5 13 rfl rfl)
theorem dX6_onceMore_133 : decode cX6_onceMore 133 = .ok (.invokevirtual 351, 3) := dk_182 1 95 (dk_at dksX6_onceMore_5 15 rfl rfl)
theorem dX6_onceMore_136 : decode cX6_onceMore 136 = .ok (.lload 7, 2) := dk_22 7 (dk_at dksX6_onceMore_5 18 rfl rfl)
theorem dX6_onceMore_138 : decode cX6_onceMore 138 = .ok (.lload 10, 2) := dk_22 10 (dk_at dksX6_onceMore_5 20 rfl rfl)
theorem dX6_onceMore_140 : decode cX6_onceMore 140 = .ok (.lsub, 1) := dk_101 (dk_at dksX6_onceMore_5 22 rfl rfl)
theorem dX6_onceMore_141 : decode cX6_onceMore 141 = .ok (.lstore 7, 2) := dk_55 7 (dk_at dksX6_onceMore_6 0 rfl rfl)
theorem dX6_onceMore_143 : decode cX6_onceMore 143 = .ok (.iinc 9 1, 3) := dk_132 9 1 (dk_at dksX6_onceMore_6 2 rfl rfl)
theorem dX6_onceMore_146 : decode cX6_onceMore 146 = .ok (.goto (-63), 3) := dk_167 255 193 (dk_at dksX6_onceMore_6 5 rfl rfl)
theorem dX6_onceMore_149 : decode cX6_onceMore 149 = .ok (.aload_n 0, 1) := dk_42 (dk_at dksX6_onceMore_6 8 rfl rfl)
theorem dX6_onceMore_150 : decode cX6_onceMore 150 = .ok (.iload 6, 2) := dk_21 6 (dk_at dksX6_onceMore_6 9 rfl rfl)
theorem dX6_onceMore_152 : decode cX6_onceMore 152 = .ok (.bipush 9, 2) := dk_16 9 (dk_at dksX6_onceMore_6 11 rfl rfl)
theorem dX6_onceMore_154 : decode cX6_onceMore 154 = .ok (.idiv, 1) := dk_108 (dk_at dksX6_onceMore_6 13 rfl rfl)
theorem dX6_onceMore_155 : decode cX6_onceMore 155 = .ok (.iload 6, 2) := dk_21 6 (dk_at dksX6_onceMore_6 14 rfl rfl)
theorem dX6_onceMore_157 : decode cX6_onceMore 157 = .ok (.bipush 9, 2) := dk_16 9 (dk_at dksX6_onceMore_6 16 rfl rfl)
theorem dX6_onceMore_159 : decode cX6_onceMore 159 = .ok (.irem, 1) := dk_112 (dk_at dksX6_onceMore_6 18 rfl rfl)
theorem dX6_onceMore_160 : decode cX6_onceMore 160 = .ok (.iload 5, 2) := dk_21 5 (dk_at dksX6_onceMore_6 19 rfl rfl)
theorem dX6_onceMore_162 : decode cX6_onceMore 162 = .ok (.iload_n 1, 1) := dk_27 (dk_at dksX6_onceMore_6 21 rfl rfl)
theorem dX6_onceMore_163 : decode cX6_onceMore 163 = .ok (.iload_n 2, 1) := dk_28 (dk_at dksX6_onceMore_6 22 rfl rfl)
theorem dX6_onceMore_164 : decode cX6_onceMore 164 = .ok (.iload_n 3, 1) := dk_29 (dk_at dksX6_onceMore_6 23 rfl rfl)
theorem dX6_onceMore_165 : decode cX6_onceMore 165 = .ok (.lload 7, 2) := dk_22 7 (dk_at dksX6_onceMore_7 0 rfl rfl)
theorem dX6_onceMore_167 : decode cX6_onceMore 167 = .ok (.invokevirtual 351, 3) := dk_182 1 95 (dk_at dksX6_onceMore_7 2 rfl rfl)
theorem dX6_onceMore_170 : decode cX6_onceMore 170 = .ok (.iinc 6 1, 3) := dk_132 6 1 (dk_at dksX6_onceMore_7 5 rfl rfl)
theorem dX6_onceMore_173 : decode cX6_onceMore 173 = .ok (.goto (-124), 3) := dk_167 255 132 (dk_at dksX6_onceMore_7 8 rfl rfl)
theorem dX6_onceMore_176 : decode cX6_onceMore 176 = .ok (.iconst 0, 1) := dk_3 (dk_at dksX6_onceMore_7 11 rfl rfl)
theorem dX6_onceMore_177 : decode cX6_onceMore 177 = .ok (.istore 6, 2) := dk_54 6 (dk_at dksX6_onceMore_7 12 rfl rfl)
theorem dX6_onceMore_179 : decode cX6_onceMore 179 = .ok (.iload 6, 2) := dk_21 6 (dk_at dksX6_onceMore_7 14 rfl rfl)
theorem dX6_onceMore_181 : decode cX6_onceMore 181 = .ok (.bipush 81, 2) := dk_16 81 (dk_at dksX6_onceMore_7 16 rfl rfl)
theorem dX6_onceMore_183 : decode cX6_onceMore 183 = .ok (.if_icmp .ge 23, 3) := dk_162 0 23 (dk_at dksX6_onceMore_7 18 rfl rfl)
theorem dX6_onceMore_186 : decode cX6_onceMore 186 = .ok (.aload_n 0, 1) := dk_42 (dk_at dksX6_onceMore_7 21 rfl rfl)
theorem dX6_onceMore_187 : decode cX6_onceMore 187 = .ok (.getfield 69, 3) := dk_180 0 69 (dk_at dksX6_onceMore_8 0 rfl rfl)
theorem dX6_onceMore_190 : decode cX6_onceMore 190 = .ok (.iload 6, 2) := dk_21 6 (dk_at dksX6_onceMore_8 3 rfl rfl)
theorem dX6_onceMore_192 : decode cX6_onceMore 192 = .ok (.aload_n 0, 1) := dk_42 (dk_at dksX6_onceMore_8 5 rfl rfl)
theorem dX6_onceMore_193 : decode cX6_onceMore 193 = .ok (.getfield 72, 3) := dk_180 0 72 (dk_at dksX6_onceMore_8 6 rfl rfl)
theorem dX6_onceMore_196 : decode cX6_onceMore 196 = .ok (.iload 6, 2) := dk_21 6 (dk_at dksX6_onceMore_8 9 rfl rfl)
theorem dX6_onceMore_198 : decode cX6_onceMore 198 = .ok (.laload, 1) := dk_47 (dk_at dksX6_onceMore_8 11 rfl rfl)
theorem dX6_onceMore_199 : decode cX6_onceMore 199 = .ok (.lastore, 1) := dk_80 (dk_at dksX6_onceMore_8 12 rfl rfl)
theorem dX6_onceMore_200 : decode cX6_onceMore 200 = .ok (.iinc 6 1, 3) := dk_132 6 1 (dk_at dksX6_onceMore_8 13 rfl rfl)
theorem dX6_onceMore_203 : decode cX6_onceMore 203 = .ok (.goto (-24), 3) := dk_167 255 232 (dk_at dksX6_onceMore_8 16 rfl rfl)
theorem dX6_onceMore_206 : decode cX6_onceMore 206 = .ok (.return_, 1) := dk_177 (dk_at dksX6_onceMore_8 19 rfl rfl)
abbrev cX6_comesOf : ByteArray := prog_17_method_70_code
def yX6_comesOf : MethodName := ⟨RX6, "comesOf", "(IIIIIIJ)V"⟩
def dkwX6_comesOf_5 : List UInt8 := [182, 1, 11, 133, 105, 97, 181, 1, 92, 177]
abbrev dktX6_comesOf_5 : List UInt8 := dkwX6_comesOf_5 ++ []
def dkwX6_comesOf_4 : List UInt8 := [182, 1, 11, 133, 105, 97, 181, 1, 89, 42, 42, 180, 1, 92, 22, 7, 42, 21, 10, 21, 9, 29]
abbrev dktX6_comesOf_4 : List UInt8 := dkwX6_comesOf_4 ++ dktX6_comesOf_5
def dkwX6_comesOf_3 : List UInt8 := [180, 0, 72, 21, 11, 47, 22, 7, 97, 80, 42, 42, 180, 1, 89, 22, 7, 42, 21, 9, 21, 10, 29]
abbrev dktX6_comesOf_3 : List UInt8 := dkwX6_comesOf_3 ++ dktX6_comesOf_4
def dkwX6_comesOf_2 : List UInt8 := [182, 1, 85, 104, 42, 28, 21, 10, 21, 4, 182, 1, 85, 96, 54, 11, 42, 180, 0, 72, 21, 11, 42]
abbrev dktX6_comesOf_2 : List UInt8 := dkwX6_comesOf_2 ++ dktX6_comesOf_3
def dkwX6_comesOf_1 : List UInt8 := [161, 0, 13, 28, 21, 4, 161, 0, 7, 4, 167, 0, 4, 3, 54, 10, 16, 9, 42, 27, 21, 9, 21, 4]
abbrev dktX6_comesOf_1 : List UInt8 := dkwX6_comesOf_1 ++ dktX6_comesOf_2
def dkwX6_comesOf_0 : List UInt8 := [29, 21, 5, 161, 0, 13, 27, 21, 4, 161, 0, 7, 4, 167, 0, 4, 3, 54, 9, 29, 21, 6]
abbrev dktX6_comesOf_0 : List UInt8 := dkwX6_comesOf_0 ++ dktX6_comesOf_1
theorem dksX6_comesOf_0 : cX6_comesOf.data.toList.drop 0 = dktX6_comesOf_0 := by decide +kernel
theorem dksX6_comesOf_1 : cX6_comesOf.data.toList.drop 22 = dktX6_comesOf_1 := dk_seg dksX6_comesOf_0 22 rfl rfl
theorem dksX6_comesOf_2 : cX6_comesOf.data.toList.drop 46 = dktX6_comesOf_2 := dk_seg dksX6_comesOf_1 24 rfl rfl
theorem dksX6_comesOf_3 : cX6_comesOf.data.toList.drop 69 = dktX6_comesOf_3 := dk_seg dksX6_comesOf_2 23 rfl rfl
theorem dksX6_comesOf_4 : cX6_comesOf.data.toList.drop 92 = dktX6_comesOf_4 := dk_seg dksX6_comesOf_3 23 rfl rfl
theorem dksX6_comesOf_5 : cX6_comesOf.data.toList.drop 114 = dktX6_comesOf_5 := dk_seg dksX6_comesOf_4 22 rfl rfl
theorem dX6_comesOf_0 : decode cX6_comesOf 0 = .ok (.iload_n 3, 1) := dk_29 (dk_at dksX6_comesOf_0 0 rfl rfl)
theorem dX6_comesOf_1 : decode cX6_comesOf 1 = .ok (.iload 5, 2) := dk_21 5 (dk_at dksX6_comesOf_0 1 rfl rfl)
theorem dX6_comesOf_3 : decode cX6_comesOf 3 = .ok (.if_icmp .lt 13, 3) := dk_161 0 13 (dk_at dksX6_comesOf_0 3 rfl rfl)
theorem dX6_comesOf_6 : decode cX6_comesOf 6 = .ok (.iload_n 1, 1) := dk_27 (dk_at dksX6_comesOf_0 6 rfl rfl)
theorem dX6_comesOf_7 : decode cX6_comesOf 7 = .ok (.iload 4, 2) := dk_21 4 (dk_at dksX6_comesOf_0 7 rfl rfl)
theorem dX6_comesOf_9 : decode cX6_comesOf 9 = .ok (.if_icmp .lt 7, 3) := dk_161 0 7 (dk_at dksX6_comesOf_0 9 rfl rfl)
theorem dX6_comesOf_12 : decode cX6_comesOf 12 = .ok (.iconst 1, 1) := dk_4 (dk_at dksX6_comesOf_0 12 rfl rfl)
theorem dX6_comesOf_13 : decode cX6_comesOf 13 = .ok (.goto 4, 3) := dk_167 0 4 (dk_at dksX6_comesOf_0 13 rfl rfl)
theorem dX6_comesOf_16 : decode cX6_comesOf 16 = .ok (.iconst 0, 1) := dk_3 (dk_at dksX6_comesOf_0 16 rfl rfl)
theorem dX6_comesOf_17 : decode cX6_comesOf 17 = .ok (.istore 9, 2) := dk_54 9 (dk_at dksX6_comesOf_0 17 rfl rfl)
theorem dX6_comesOf_19 : decode cX6_comesOf 19 = .ok (.iload_n 3, 1) := dk_29 (dk_at dksX6_comesOf_0 19 rfl rfl)
theorem dX6_comesOf_20 : decode cX6_comesOf 20 = .ok (.iload 6, 2) := dk_21 6 (dk_at dksX6_comesOf_0 20 rfl rfl)
theorem dX6_comesOf_22 : decode cX6_comesOf 22 = .ok (.if_icmp .lt 13, 3) := dk_161 0 13 (dk_at dksX6_comesOf_1 0 rfl rfl)
theorem dX6_comesOf_25 : decode cX6_comesOf 25 = .ok (.iload_n 2, 1) := dk_28 (dk_at dksX6_comesOf_1 3 rfl rfl)
theorem dX6_comesOf_26 : decode cX6_comesOf 26 = .ok (.iload 4, 2) := dk_21 4 (dk_at dksX6_comesOf_1 4 rfl rfl)
theorem dX6_comesOf_28 : decode cX6_comesOf 28 = .ok (.if_icmp .lt 7, 3) := dk_161 0 7 (dk_at dksX6_comesOf_1 6 rfl rfl)
theorem dX6_comesOf_31 : decode cX6_comesOf 31 = .ok (.iconst 1, 1) := dk_4 (dk_at dksX6_comesOf_1 9 rfl rfl)
theorem dX6_comesOf_32 : decode cX6_comesOf 32 = .ok (.goto 4, 3) := dk_167 0 4 (dk_at dksX6_comesOf_1 10 rfl rfl)
theorem dX6_comesOf_35 : decode cX6_comesOf 35 = .ok (.iconst 0, 1) := dk_3 (dk_at dksX6_comesOf_1 13 rfl rfl)
theorem dX6_comesOf_36 : decode cX6_comesOf 36 = .ok (.istore 10, 2) := dk_54 10 (dk_at dksX6_comesOf_1 14 rfl rfl)
theorem dX6_comesOf_38 : decode cX6_comesOf 38 = .ok (.bipush 9, 2) := dk_16 9 (dk_at dksX6_comesOf_1 16 rfl rfl)
theorem dX6_comesOf_40 : decode cX6_comesOf 40 = .ok (.aload_n 0, 1) := dk_42 (dk_at dksX6_comesOf_1 18 rfl rfl)
theorem dX6_comesOf_41 : decode cX6_comesOf 41 = .ok (.iload_n 1, 1) := dk_27 (dk_at dksX6_comesOf_1 19 rfl rfl)
theorem dX6_comesOf_42 : decode cX6_comesOf 42 = .ok (.iload 9, 2) := dk_21 9 (dk_at dksX6_comesOf_1 20 rfl rfl)
theorem dX6_comesOf_44 : decode cX6_comesOf 44 = .ok (.iload 4, 2) := dk_21 4 (dk_at dksX6_comesOf_1 22 rfl rfl)
theorem dX6_comesOf_46 : decode cX6_comesOf 46 = .ok (.invokevirtual 341, 3) := dk_182 1 85 (dk_at dksX6_comesOf_2 0 rfl rfl)
theorem dX6_comesOf_49 : decode cX6_comesOf 49 = .ok (.imul, 1) := dk_104 (dk_at dksX6_comesOf_2 3 rfl rfl)
theorem dX6_comesOf_50 : decode cX6_comesOf 50 = .ok (.aload_n 0, 1) := dk_42 (dk_at dksX6_comesOf_2 4 rfl rfl)
theorem dX6_comesOf_51 : decode cX6_comesOf 51 = .ok (.iload_n 2, 1) := dk_28 (dk_at dksX6_comesOf_2 5 rfl rfl)
theorem dX6_comesOf_52 : decode cX6_comesOf 52 = .ok (.iload 10, 2) := dk_21 10 (dk_at dksX6_comesOf_2 6 rfl rfl)
theorem dX6_comesOf_54 : decode cX6_comesOf 54 = .ok (.iload 4, 2) := dk_21 4 (dk_at dksX6_comesOf_2 8 rfl rfl)
theorem dX6_comesOf_56 : decode cX6_comesOf 56 = .ok (.invokevirtual 341, 3) := dk_182 1 85 (dk_at dksX6_comesOf_2 10 rfl rfl)
theorem dX6_comesOf_59 : decode cX6_comesOf 59 = .ok (.iadd, 1) := dk_96 (dk_at dksX6_comesOf_2 13 rfl rfl)
theorem dX6_comesOf_60 : decode cX6_comesOf 60 = .ok (.istore 11, 2) := dk_54 11 (dk_at dksX6_comesOf_2 14 rfl rfl)
theorem dX6_comesOf_62 : decode cX6_comesOf 62 = .ok (.aload_n 0, 1) := dk_42 (dk_at dksX6_comesOf_2 16 rfl rfl)
theorem dX6_comesOf_63 : decode cX6_comesOf 63 = .ok (.getfield 72, 3) := dk_180 0 72 (dk_at dksX6_comesOf_2 17 rfl rfl)
theorem dX6_comesOf_66 : decode cX6_comesOf 66 = .ok (.iload 11, 2) := dk_21 11 (dk_at dksX6_comesOf_2 20 rfl rfl)
theorem dX6_comesOf_68 : decode cX6_comesOf 68 = .ok (.aload_n 0, 1) := dk_42 (dk_at dksX6_comesOf_2 22 rfl rfl)
theorem dX6_comesOf_69 : decode cX6_comesOf 69 = .ok (.getfield 72, 3) := dk_180 0 72 (dk_at dksX6_comesOf_3 0 rfl rfl)
theorem dX6_comesOf_72 : decode cX6_comesOf 72 = .ok (.iload 11, 2) := dk_21 11 (dk_at dksX6_comesOf_3 3 rfl rfl)
theorem dX6_comesOf_74 : decode cX6_comesOf 74 = .ok (.laload, 1) := dk_47 (dk_at dksX6_comesOf_3 5 rfl rfl)
theorem dX6_comesOf_75 : decode cX6_comesOf 75 = .ok (.lload 7, 2) := dk_22 7 (dk_at dksX6_comesOf_3 6 rfl rfl)
theorem dX6_comesOf_77 : decode cX6_comesOf 77 = .ok (.ladd, 1) := dk_97 (dk_at dksX6_comesOf_3 8 rfl rfl)
theorem dX6_comesOf_78 : decode cX6_comesOf 78 = .ok (.lastore, 1) := dk_80 (dk_at dksX6_comesOf_3 9 rfl rfl)
theorem dX6_comesOf_79 : decode cX6_comesOf 79 = .ok (.aload_n 0, 1) := dk_42 (dk_at dksX6_comesOf_3 10 rfl rfl)
theorem dX6_comesOf_80 : decode cX6_comesOf 80 = .ok (.aload_n 0, 1) := dk_42 (dk_at dksX6_comesOf_3 11 rfl rfl)
theorem dX6_comesOf_81 : decode cX6_comesOf 81 = .ok (.getfield 345, 3) := dk_180 1 89 (dk_at dksX6_comesOf_3 12 rfl rfl)
theorem dX6_comesOf_84 : decode cX6_comesOf 84 = .ok (.lload 7, 2) := dk_22 7 (dk_at dksX6_comesOf_3 15 rfl rfl)
theorem dX6_comesOf_86 : decode cX6_comesOf 86 = .ok (.aload_n 0, 1) := dk_42 (dk_at dksX6_comesOf_3 17 rfl rfl)
theorem dX6_comesOf_87 : decode cX6_comesOf 87 = .ok (.iload 9, 2) := dk_21 9 (dk_at dksX6_comesOf_3 18 rfl rfl)
theorem dX6_comesOf_89 : decode cX6_comesOf 89 = .ok (.iload 10, 2) := dk_21 10 (dk_at dksX6_comesOf_3 20 rfl rfl)
theorem dX6_comesOf_91 : decode cX6_comesOf 91 = .ok (.iload_n 3, 1) := dk_29 (dk_at dksX6_comesOf_3 22 rfl rfl)
theorem dX6_comesOf_92 : decode cX6_comesOf 92 = .ok (.invokevirtual 267, 3) := dk_182 1 11 (dk_at dksX6_comesOf_4 0 rfl rfl)
theorem dX6_comesOf_95 : decode cX6_comesOf 95 = .ok (.i2l, 1) := dk_133 (dk_at dksX6_comesOf_4 3 rfl rfl)
theorem dX6_comesOf_96 : decode cX6_comesOf 96 = .ok (.lmul, 1) := dk_105 (dk_at dksX6_comesOf_4 4 rfl rfl)
theorem dX6_comesOf_97 : decode cX6_comesOf 97 = .ok (.ladd, 1) := dk_97 (dk_at dksX6_comesOf_4 5 rfl rfl)
theorem dX6_comesOf_98 : decode cX6_comesOf 98 = .ok (.putfield 345, 3) := dk_181 1 89 (dk_at dksX6_comesOf_4 6 rfl rfl)
theorem dX6_comesOf_101 : decode cX6_comesOf 101 = .ok (.aload_n 0, 1) := dk_42 (dk_at dksX6_comesOf_4 9 rfl rfl)
theorem dX6_comesOf_102 : decode cX6_comesOf 102 = .ok (.aload_n 0, 1) := dk_42 (dk_at dksX6_comesOf_4 10 rfl rfl)
theorem dX6_comesOf_103 : decode cX6_comesOf 103 = .ok (.getfield 348, 3) := dk_180 1 92 (dk_at dksX6_comesOf_4 11 rfl rfl)
theorem dX6_comesOf_106 : decode cX6_comesOf 106 = .ok (.lload 7, 2) := dk_22 7 (dk_at dksX6_comesOf_4 14 rfl rfl)
theorem dX6_comesOf_108 : decode cX6_comesOf 108 = .ok (.aload_n 0, 1) := dk_42 (dk_at dksX6_comesOf_4 16 rfl rfl)
theorem dX6_comesOf_109 : decode cX6_comesOf 109 = .ok (.iload 10, 2) := dk_21 10 (dk_at dksX6_comesOf_4 17 rfl rfl)
theorem dX6_comesOf_111 : decode cX6_comesOf 111 = .ok (.iload 9, 2) := dk_21 9 (dk_at dksX6_comesOf_4 19 rfl rfl)
theorem dX6_comesOf_113 : decode cX6_comesOf 113 = .ok (.iload_n 3, 1) := dk_29 (dk_at dksX6_comesOf_4 21 rfl rfl)
theorem dX6_comesOf_114 : decode cX6_comesOf 114 = .ok (.invokevirtual 267, 3) := dk_182 1 11 (dk_at dksX6_comesOf_5 0 rfl rfl)
theorem dX6_comesOf_117 : decode cX6_comesOf 117 = .ok (.i2l, 1) := dk_133 (dk_at dksX6_comesOf_5 3 rfl rfl)
theorem dX6_comesOf_118 : decode cX6_comesOf 118 = .ok (.lmul, 1) := dk_105 (dk_at dksX6_comesOf_5 4 rfl rfl)
theorem dX6_comesOf_119 : decode cX6_comesOf 119 = .ok (.ladd, 1) := dk_97 (dk_at dksX6_comesOf_5 5 rfl rfl)
theorem dX6_comesOf_120 : decode cX6_comesOf 120 = .ok (.putfield 348, 3) := dk_181 1 92 (dk_at dksX6_comesOf_5 6 rfl rfl)
theorem dX6_comesOf_123 : decode cX6_comesOf 123 = .ok (.return_, 1) := dk_177 (dk_at dksX6_comesOf_5 9 rfl rfl)
abbrev cX6_behind : ByteArray := prog_17_method_69_code
def yX6_behind : MethodName := ⟨RX6, "behind", "(IZI)I"⟩
def dkwX6_behind_1 : List UInt8 := [172]
abbrev dktX6_behind_1 : List UInt8 := dkwX6_behind_1 ++ []
def dkwX6_behind_0 : List UInt8 := [28, 153, 0, 9, 27, 29, 100, 167, 0, 17, 27, 16, 8, 162, 0, 9, 27, 4, 96, 167, 0, 5, 16, 8]
abbrev dktX6_behind_0 : List UInt8 := dkwX6_behind_0 ++ dktX6_behind_1
theorem dksX6_behind_0 : cX6_behind.data.toList.drop 0 = dktX6_behind_0 := by decide +kernel
theorem dksX6_behind_1 : cX6_behind.data.toList.drop 24 = dktX6_behind_1 := dk_seg dksX6_behind_0 24 rfl rfl
theorem dX6_behind_0 : decode cX6_behind 0 = .ok (.iload_n 2, 1) := dk_28 (dk_at dksX6_behind_0 0 rfl rfl)
theorem dX6_behind_1 : decode cX6_behind 1 = .ok (.ifCond .eq 9, 3) := dk_153 0 9 (dk_at dksX6_behind_0 1 rfl rfl)
theorem dX6_behind_4 : decode cX6_behind 4 = .ok (.iload_n 1, 1) := dk_27 (dk_at dksX6_behind_0 4 rfl rfl)
theorem dX6_behind_5 : decode cX6_behind 5 = .ok (.iload_n 3, 1) := dk_29 (dk_at dksX6_behind_0 5 rfl rfl)
theorem dX6_behind_6 : decode cX6_behind 6 = .ok (.isub, 1) := dk_100 (dk_at dksX6_behind_0 6 rfl rfl)
theorem dX6_behind_7 : decode cX6_behind 7 = .ok (.goto 17, 3) := dk_167 0 17 (dk_at dksX6_behind_0 7 rfl rfl)
theorem dX6_behind_10 : decode cX6_behind 10 = .ok (.iload_n 1, 1) := dk_27 (dk_at dksX6_behind_0 10 rfl rfl)
theorem dX6_behind_11 : decode cX6_behind 11 = .ok (.bipush 8, 2) := dk_16 8 (dk_at dksX6_behind_0 11 rfl rfl)
theorem dX6_behind_13 : decode cX6_behind 13 = .ok (.if_icmp .ge 9, 3) := dk_162 0 9 (dk_at dksX6_behind_0 13 rfl rfl)
theorem dX6_behind_16 : decode cX6_behind 16 = .ok (.iload_n 1, 1) := dk_27 (dk_at dksX6_behind_0 16 rfl rfl)
theorem dX6_behind_17 : decode cX6_behind 17 = .ok (.iconst 1, 1) := dk_4 (dk_at dksX6_behind_0 17 rfl rfl)
theorem dX6_behind_18 : decode cX6_behind 18 = .ok (.iadd, 1) := dk_96 (dk_at dksX6_behind_0 18 rfl rfl)
theorem dX6_behind_19 : decode cX6_behind 19 = .ok (.goto 5, 3) := dk_167 0 5 (dk_at dksX6_behind_0 19 rfl rfl)
theorem dX6_behind_22 : decode cX6_behind 22 = .ok (.bipush 8, 2) := dk_16 8 (dk_at dksX6_behind_0 22 rfl rfl)
theorem dX6_behind_24 : decode cX6_behind 24 = .ok (.ireturn, 1) := dk_172 (dk_at dksX6_behind_1 0 rfl rfl)
abbrev cX6_holds : ByteArray := prog_17_method_77_code
def yX6_holds : MethodName := ⟨RX6, "holds", "(IIIII)I"⟩
def dkwX6_holds_11 : List UInt8 := [167, 0, 16, 21, 5, 4, 160, 0, 8, 21, 7, 167, 0, 5, 21, 8, 172]
abbrev dktX6_holds_11 : List UInt8 := dkwX6_holds_11 ++ []
def dkwX6_holds_10 : List UInt8 := [22, 13, 55, 9, 132, 12, 1, 167, 255, 150, 132, 11, 1, 167, 255, 134, 21, 5, 154, 0, 8, 21, 6]
abbrev dktX6_holds_10 : List UInt8 := dkwX6_holds_10 ++ dktX6_holds_11
def dkwX6_holds_9 : List UInt8 := [159, 0, 14, 22, 13, 22, 9, 148, 157, 0, 6, 167, 0, 17, 16, 20, 21, 11, 104, 21, 12, 96, 54, 8]
abbrev dktX6_holds_9 : List UInt8 := dkwX6_holds_9 ++ dktX6_holds_10
def dkwX6_holds_8 : List UInt8 := [104, 21, 12, 96, 47, 42, 180, 0, 78, 16, 14, 21, 11, 104, 21, 12, 96, 47, 97, 55, 13, 21, 8, 2]
abbrev dktX6_holds_8 : List UInt8 := dkwX6_holds_8 ++ dktX6_holds_9
def dkwX6_holds_7 : List UInt8 := [21, 7, 2, 160, 0, 13, 16, 20, 21, 11, 104, 21, 12, 96, 54, 7, 42, 180, 0, 75, 16, 14, 21, 11]
abbrev dktX6_holds_7 : List UInt8 := dkwX6_holds_7 ++ dktX6_holds_8
def dkwX6_holds_6 : List UInt8 := [163, 0, 105, 42, 21, 11, 21, 12, 182, 1, 116, 154, 0, 6, 167, 0, 85, 21, 6, 4, 96, 54, 6]
abbrev dktX6_holds_6 : List UInt8 := dkwX6_holds_6 ++ dktX6_holds_7
def dkwX6_holds_5 : List UInt8 := [54, 8, 9, 55, 9, 4, 54, 11, 21, 11, 16, 13, 163, 0, 121, 4, 54, 12, 21, 12, 16, 13]
abbrev dktX6_holds_5 : List UInt8 := dkwX6_holds_5 ++ dktX6_holds_6
def dkwX6_holds_4 : List UInt8 := [180, 1, 102, 80, 132, 7, 1, 167, 255, 199, 132, 6, 1, 167, 255, 183, 3, 54, 6, 2, 54, 7, 2]
abbrev dktX6_holds_4 : List UInt8 := dkwX6_holds_4 ++ dktX6_holds_5
def dkwX6_holds_3 : List UInt8 := [21, 6, 104, 21, 7, 96, 42, 180, 1, 99, 80, 42, 180, 0, 78, 16, 14, 21, 6, 104, 21, 7, 96, 42]
abbrev dktX6_holds_3 : List UInt8 := dkwX6_holds_3 ++ dktX6_holds_4
def dkwX6_holds_2 : List UInt8 := [16, 13, 163, 0, 56, 42, 27, 28, 29, 21, 4, 21, 6, 21, 7, 182, 1, 112, 42, 180, 0, 75, 16, 14]
abbrev dktX6_holds_2 : List UInt8 := dkwX6_holds_2 ++ dktX6_holds_3
def dkwX6_holds_1 : List UInt8 := [182, 0, 109, 154, 0, 5, 2, 172, 4, 54, 6, 21, 6, 16, 13, 163, 0, 72, 4, 54, 7, 21, 7]
abbrev dktX6_holds_1 : List UInt8 := dkwX6_holds_1 ++ dktX6_holds_2
def dkwX6_holds_0 : List UInt8 := [42, 3, 181, 0, 90, 42, 27, 28, 29, 21, 4, 182, 1, 108, 153, 0, 14, 42, 21, 5, 3, 5]
abbrev dktX6_holds_0 : List UInt8 := dkwX6_holds_0 ++ dktX6_holds_1
theorem dksX6_holds_0 : cX6_holds.data.toList.drop 0 = dktX6_holds_0 := by decide +kernel
theorem dksX6_holds_1 : cX6_holds.data.toList.drop 22 = dktX6_holds_1 := dk_seg dksX6_holds_0 22 rfl rfl
theorem dksX6_holds_2 : cX6_holds.data.toList.drop 45 = dktX6_holds_2 := dk_seg dksX6_holds_1 23 rfl rfl
theorem dksX6_holds_3 : cX6_holds.data.toList.drop 69 = dktX6_holds_3 := dk_seg dksX6_holds_2 24 rfl rfl
theorem dksX6_holds_4 : cX6_holds.data.toList.drop 93 = dktX6_holds_4 := dk_seg dksX6_holds_3 24 rfl rfl
theorem dksX6_holds_5 : cX6_holds.data.toList.drop 116 = dktX6_holds_5 := dk_seg dksX6_holds_4 23 rfl rfl
theorem dksX6_holds_6 : cX6_holds.data.toList.drop 138 = dktX6_holds_6 := dk_seg dksX6_holds_5 22 rfl rfl
theorem dksX6_holds_7 : cX6_holds.data.toList.drop 161 = dktX6_holds_7 := dk_seg dksX6_holds_6 23 rfl rfl
theorem dksX6_holds_8 : cX6_holds.data.toList.drop 185 = dktX6_holds_8 := dk_seg dksX6_holds_7 24 rfl rfl
theorem dksX6_holds_9 : cX6_holds.data.toList.drop 209 = dktX6_holds_9 := dk_seg dksX6_holds_8 24 rfl rfl
theorem dksX6_holds_10 : cX6_holds.data.toList.drop 233 = dktX6_holds_10 := dk_seg dksX6_holds_9 24 rfl rfl
theorem dksX6_holds_11 : cX6_holds.data.toList.drop 256 = dktX6_holds_11 := dk_seg dksX6_holds_10 23 rfl rfl
theorem dX6_holds_0 : decode cX6_holds 0 = .ok (.aload_n 0, 1) := dk_42 (dk_at dksX6_holds_0 0 rfl rfl)
theorem dX6_holds_1 : decode cX6_holds 1 = .ok (.iconst 0, 1) := dk_3 (dk_at dksX6_holds_0 1 rfl rfl)
theorem dX6_holds_2 : decode cX6_holds 2 = .ok (.putfield 90, 3) := dk_181 0 90 (dk_at dksX6_holds_0 2 rfl rfl)
theorem dX6_holds_5 : decode cX6_holds 5 = .ok (.aload_n 0, 1) := dk_42 (dk_at dksX6_holds_0 5 rfl rfl)
theorem dX6_holds_6 : decode cX6_holds 6 = .ok (.iload_n 1, 1) := dk_27 (dk_at dksX6_holds_0 6 rfl rfl)
theorem dX6_holds_7 : decode cX6_holds 7 = .ok (.iload_n 2, 1) := dk_28 (dk_at dksX6_holds_0 7 rfl rfl)
theorem dX6_holds_8 : decode cX6_holds 8 = .ok (.iload_n 3, 1) := dk_29 (dk_at dksX6_holds_0 8 rfl rfl)
theorem dX6_holds_9 : decode cX6_holds 9 = .ok (.iload 4, 2) := dk_21 4 (dk_at dksX6_holds_0 9 rfl rfl)
theorem dX6_holds_11 : decode cX6_holds 11 = .ok (.invokevirtual 364, 3) := dk_182 1 108 (dk_at dksX6_holds_0 11 rfl rfl)
theorem dX6_holds_14 : decode cX6_holds 14 = .ok (.ifCond .eq 14, 3) := dk_153 0 14 (dk_at dksX6_holds_0 14 rfl rfl)
theorem dX6_holds_17 : decode cX6_holds 17 = .ok (.aload_n 0, 1) := dk_42 (dk_at dksX6_holds_0 17 rfl rfl)
theorem dX6_holds_18 : decode cX6_holds 18 = .ok (.iload 5, 2) := dk_21 5 (dk_at dksX6_holds_0 18 rfl rfl)
theorem dX6_holds_20 : decode cX6_holds 20 = .ok (.iconst 0, 1) := dk_3 (dk_at dksX6_holds_0 20 rfl rfl)
theorem dX6_holds_21 : decode cX6_holds 21 = .ok (.iconst 2, 1) := dk_5 (dk_at dksX6_holds_0 21 rfl rfl)
theorem dX6_holds_22 : decode cX6_holds 22 = .ok (.invokevirtual 109, 3) := dk_182 0 109 (dk_at dksX6_holds_1 0 rfl rfl)
theorem dX6_holds_25 : decode cX6_holds 25 = .ok (.ifCond .ne 5, 3) := dk_154 0 5 (dk_at dksX6_holds_1 3 rfl rfl)
theorem dX6_holds_28 : decode cX6_holds 28 = .ok (.iconst (-1), 1) := dk_2 (dk_at dksX6_holds_1 6 rfl rfl)
theorem dX6_holds_29 : decode cX6_holds 29 = .ok (.ireturn, 1) := dk_172 (dk_at dksX6_holds_1 7 rfl rfl)
theorem dX6_holds_30 : decode cX6_holds 30 = .ok (.iconst 1, 1) := dk_4 (dk_at dksX6_holds_1 8 rfl rfl)
theorem dX6_holds_31 : decode cX6_holds 31 = .ok (.istore 6, 2) := dk_54 6 (dk_at dksX6_holds_1 9 rfl rfl)
theorem dX6_holds_33 : decode cX6_holds 33 = .ok (.iload 6, 2) := dk_21 6 (dk_at dksX6_holds_1 11 rfl rfl)
theorem dX6_holds_35 : decode cX6_holds 35 = .ok (.bipush 13, 2) := dk_16 13 (dk_at dksX6_holds_1 13 rfl rfl)
theorem dX6_holds_37 : decode cX6_holds 37 = .ok (.if_icmp .gt 72, 3) := dk_163 0 72 (dk_at dksX6_holds_1 15 rfl rfl)
theorem dX6_holds_40 : decode cX6_holds 40 = .ok (.iconst 1, 1) := dk_4 (dk_at dksX6_holds_1 18 rfl rfl)
theorem dX6_holds_41 : decode cX6_holds 41 = .ok (.istore 7, 2) := dk_54 7 (dk_at dksX6_holds_1 19 rfl rfl)
theorem dX6_holds_43 : decode cX6_holds 43 = .ok (.iload 7, 2) := dk_21 7 (dk_at dksX6_holds_1 21 rfl rfl)
theorem dX6_holds_45 : decode cX6_holds 45 = .ok (.bipush 13, 2) := dk_16 13 (dk_at dksX6_holds_2 0 rfl rfl)
theorem dX6_holds_47 : decode cX6_holds 47 = .ok (.if_icmp .gt 56, 3) := dk_163 0 56 (dk_at dksX6_holds_2 2 rfl rfl)
theorem dX6_holds_50 : decode cX6_holds 50 = .ok (.aload_n 0, 1) := dk_42 (dk_at dksX6_holds_2 5 rfl rfl)
theorem dX6_holds_51 : decode cX6_holds 51 = .ok (.iload_n 1, 1) := dk_27 (dk_at dksX6_holds_2 6 rfl rfl)
theorem dX6_holds_52 : decode cX6_holds 52 = .ok (.iload_n 2, 1) := dk_28 (dk_at dksX6_holds_2 7 rfl rfl)
theorem dX6_holds_53 : decode cX6_holds 53 = .ok (.iload_n 3, 1) := dk_29 (dk_at dksX6_holds_2 8 rfl rfl)
theorem dX6_holds_54 : decode cX6_holds 54 = .ok (.iload 4, 2) := dk_21 4 (dk_at dksX6_holds_2 9 rfl rfl)
theorem dX6_holds_56 : decode cX6_holds 56 = .ok (.iload 6, 2) := dk_21 6 (dk_at dksX6_holds_2 11 rfl rfl)
theorem dX6_holds_58 : decode cX6_holds 58 = .ok (.iload 7, 2) := dk_21 7 (dk_at dksX6_holds_2 13 rfl rfl)
theorem dX6_holds_60 : decode cX6_holds 60 = .ok (.invokevirtual 368, 3) := dk_182 1 112 (dk_at dksX6_holds_2 15 rfl rfl)
theorem dX6_holds_63 : decode cX6_holds 63 = .ok (.aload_n 0, 1) := dk_42 (dk_at dksX6_holds_2 18 rfl rfl)
theorem dX6_holds_64 : decode cX6_holds 64 = .ok (.getfield 75, 3) := dk_180 0 75 (dk_at dksX6_holds_2 19 rfl rfl)
theorem dX6_holds_67 : decode cX6_holds 67 = .ok (.bipush 14, 2) := dk_16 14 (dk_at dksX6_holds_2 22 rfl rfl)
theorem dX6_holds_69 : decode cX6_holds 69 = .ok (.iload 6, 2) := dk_21 6 (dk_at dksX6_holds_3 0 rfl rfl)
theorem dX6_holds_71 : decode cX6_holds 71 = .ok (.imul, 1) := dk_104 (dk_at dksX6_holds_3 2 rfl rfl)
theorem dX6_holds_72 : decode cX6_holds 72 = .ok (.iload 7, 2) := dk_21 7 (dk_at dksX6_holds_3 3 rfl rfl)
theorem dX6_holds_74 : decode cX6_holds 74 = .ok (.iadd, 1) := dk_96 (dk_at dksX6_holds_3 5 rfl rfl)
theorem dX6_holds_75 : decode cX6_holds 75 = .ok (.aload_n 0, 1) := dk_42 (dk_at dksX6_holds_3 6 rfl rfl)
theorem dX6_holds_76 : decode cX6_holds 76 = .ok (.getfield 355, 3) := dk_180 1 99 (dk_at dksX6_holds_3 7 rfl rfl)
theorem dX6_holds_79 : decode cX6_holds 79 = .ok (.lastore, 1) := dk_80 (dk_at dksX6_holds_3 10 rfl rfl)
theorem dX6_holds_80 : decode cX6_holds 80 = .ok (.aload_n 0, 1) := dk_42 (dk_at dksX6_holds_3 11 rfl rfl)
theorem dX6_holds_81 : decode cX6_holds 81 = .ok (.getfield 78, 3) := dk_180 0 78 (dk_at dksX6_holds_3 12 rfl rfl)
theorem dX6_holds_84 : decode cX6_holds 84 = .ok (.bipush 14, 2) := dk_16 14 (dk_at dksX6_holds_3 15 rfl rfl)
theorem dX6_holds_86 : decode cX6_holds 86 = .ok (.iload 6, 2) := dk_21 6 (dk_at dksX6_holds_3 17 rfl rfl)
theorem dX6_holds_88 : decode cX6_holds 88 = .ok (.imul, 1) := dk_104 (dk_at dksX6_holds_3 19 rfl rfl)
theorem dX6_holds_89 : decode cX6_holds 89 = .ok (.iload 7, 2) := dk_21 7 (dk_at dksX6_holds_3 20 rfl rfl)
theorem dX6_holds_91 : decode cX6_holds 91 = .ok (.iadd, 1) := dk_96 (dk_at dksX6_holds_3 22 rfl rfl)
theorem dX6_holds_92 : decode cX6_holds 92 = .ok (.aload_n 0, 1) := dk_42 (dk_at dksX6_holds_3 23 rfl rfl)
theorem dX6_holds_93 : decode cX6_holds 93 = .ok (.getfield 358, 3) := dk_180 1 102 (dk_at dksX6_holds_4 0 rfl rfl)
theorem dX6_holds_96 : decode cX6_holds 96 = .ok (.lastore, 1) := dk_80 (dk_at dksX6_holds_4 3 rfl rfl)
theorem dX6_holds_97 : decode cX6_holds 97 = .ok (.iinc 7 1, 3) := dk_132 7 1 (dk_at dksX6_holds_4 4 rfl rfl)
theorem dX6_holds_100 : decode cX6_holds 100 = .ok (.goto (-57), 3) := dk_167 255 199 (dk_at dksX6_holds_4 7 rfl rfl)
theorem dX6_holds_103 : decode cX6_holds 103 = .ok (.iinc 6 1, 3) := dk_132 6 1 (dk_at dksX6_holds_4 10 rfl rfl)
theorem dX6_holds_106 : decode cX6_holds 106 = .ok (.goto (-73), 3) := dk_167 255 183 (dk_at dksX6_holds_4 13 rfl rfl)
theorem dX6_holds_109 : decode cX6_holds 109 = .ok (.iconst 0, 1) := dk_3 (dk_at dksX6_holds_4 16 rfl rfl)
theorem dX6_holds_110 : decode cX6_holds 110 = .ok (.istore 6, 2) := dk_54 6 (dk_at dksX6_holds_4 17 rfl rfl)
theorem dX6_holds_112 : decode cX6_holds 112 = .ok (.iconst (-1), 1) := dk_2 (dk_at dksX6_holds_4 19 rfl rfl)
theorem dX6_holds_113 : decode cX6_holds 113 = .ok (.istore 7, 2) := dk_54 7 (dk_at dksX6_holds_4 20 rfl rfl)
theorem dX6_holds_115 : decode cX6_holds 115 = .ok (.iconst (-1), 1) := dk_2 (dk_at dksX6_holds_4 22 rfl rfl)
theorem dX6_holds_116 : decode cX6_holds 116 = .ok (.istore 8, 2) := dk_54 8 (dk_at dksX6_holds_5 0 rfl rfl)
theorem dX6_holds_118 : decode cX6_holds 118 = .ok (.lconst 0, 1) := dk_9 (dk_at dksX6_holds_5 2 rfl rfl)
theorem dX6_holds_119 : decode cX6_holds 119 = .ok (.lstore 9, 2) := dk_55 9 (dk_at dksX6_holds_5 3 rfl rfl)
theorem dX6_holds_121 : decode cX6_holds 121 = .ok (.iconst 1, 1) := dk_4 (dk_at dksX6_holds_5 5 rfl rfl)
theorem dX6_holds_122 : decode cX6_holds 122 = .ok (.istore 11, 2) := dk_54 11 (dk_at dksX6_holds_5 6 rfl rfl)
theorem dX6_holds_124 : decode cX6_holds 124 = .ok (.iload 11, 2) := dk_21 11 (dk_at dksX6_holds_5 8 rfl rfl)
theorem dX6_holds_126 : decode cX6_holds 126 = .ok (.bipush 13, 2) := dk_16 13 (dk_at dksX6_holds_5 10 rfl rfl)
theorem dX6_holds_128 : decode cX6_holds 128 = .ok (.if_icmp .gt 121, 3) := dk_163 0 121 (dk_at dksX6_holds_5 12 rfl rfl)
theorem dX6_holds_131 : decode cX6_holds 131 = .ok (.iconst 1, 1) := dk_4 (dk_at dksX6_holds_5 15 rfl rfl)
theorem dX6_holds_132 : decode cX6_holds 132 = .ok (.istore 12, 2) := dk_54 12 (dk_at dksX6_holds_5 16 rfl rfl)
theorem dX6_holds_134 : decode cX6_holds 134 = .ok (.iload 12, 2) := dk_21 12 (dk_at dksX6_holds_5 18 rfl rfl)
theorem dX6_holds_136 : decode cX6_holds 136 = .ok (.bipush 13, 2) := dk_16 13 (dk_at dksX6_holds_5 20 rfl rfl)
theorem dX6_holds_138 : decode cX6_holds 138 = .ok (.if_icmp .gt 105, 3) := dk_163 0 105 (dk_at dksX6_holds_6 0 rfl rfl)
theorem dX6_holds_141 : decode cX6_holds 141 = .ok (.aload_n 0, 1) := dk_42 (dk_at dksX6_holds_6 3 rfl rfl)
theorem dX6_holds_142 : decode cX6_holds 142 = .ok (.iload 11, 2) := dk_21 11 (dk_at dksX6_holds_6 4 rfl rfl)
theorem dX6_holds_144 : decode cX6_holds 144 = .ok (.iload 12, 2) := dk_21 12 (dk_at dksX6_holds_6 6 rfl rfl)
theorem dX6_holds_146 : decode cX6_holds 146 = .ok (.invokevirtual 372, 3) := dk_182 1 116 (dk_at dksX6_holds_6 8 rfl rfl)
theorem dX6_holds_149 : decode cX6_holds 149 = .ok (.ifCond .ne 6, 3) := dk_154 0 6 (dk_at dksX6_holds_6 11 rfl rfl)
theorem dX6_holds_152 : decode cX6_holds 152 = .ok (.goto 85, 3) := dk_167 0 85 (dk_at dksX6_holds_6 14 rfl rfl)
theorem dX6_holds_155 : decode cX6_holds 155 = .ok (.iload 6, 2) := dk_21 6 (dk_at dksX6_holds_6 17 rfl rfl)
theorem dX6_holds_157 : decode cX6_holds 157 = .ok (.iconst 1, 1) := dk_4 (dk_at dksX6_holds_6 19 rfl rfl)
theorem dX6_holds_158 : decode cX6_holds 158 = .ok (.iadd, 1) := dk_96 (dk_at dksX6_holds_6 20 rfl rfl)
theorem dX6_holds_159 : decode cX6_holds 159 = .ok (.istore 6, 2) := dk_54 6 (dk_at dksX6_holds_6 21 rfl rfl)
theorem dX6_holds_161 : decode cX6_holds 161 = .ok (.iload 7, 2) := dk_21 7 (dk_at dksX6_holds_7 0 rfl rfl)
theorem dX6_holds_163 : decode cX6_holds 163 = .ok (.iconst (-1), 1) := dk_2 (dk_at dksX6_holds_7 2 rfl rfl)
theorem dX6_holds_164 : decode cX6_holds 164 = .ok (.if_icmp .ne 13, 3) := dk_160 0 13 (dk_at dksX6_holds_7 3 rfl rfl)
theorem dX6_holds_167 : decode cX6_holds 167 = .ok (.bipush 20, 2) := dk_16 20 (dk_at dksX6_holds_7 6 rfl rfl)
theorem dX6_holds_169 : decode cX6_holds 169 = .ok (.iload 11, 2) := dk_21 11 (dk_at dksX6_holds_7 8 rfl rfl)
theorem dX6_holds_171 : decode cX6_holds 171 = .ok (.imul, 1) := dk_104 (dk_at dksX6_holds_7 10 rfl rfl)
theorem dX6_holds_172 : decode cX6_holds 172 = .ok (.iload 12, 2) := dk_21 12 (dk_at dksX6_holds_7 11 rfl rfl)
theorem dX6_holds_174 : decode cX6_holds 174 = .ok (.iadd, 1) := dk_96 (dk_at dksX6_holds_7 13 rfl rfl)
theorem dX6_holds_175 : decode cX6_holds 175 = .ok (.istore 7, 2) := dk_54 7 (dk_at dksX6_holds_7 14 rfl rfl)
theorem dX6_holds_177 : decode cX6_holds 177 = .ok (.aload_n 0, 1) := dk_42 (dk_at dksX6_holds_7 16 rfl rfl)
theorem dX6_holds_178 : decode cX6_holds 178 = .ok (.getfield 75, 3) := dk_180 0 75 (dk_at dksX6_holds_7 17 rfl rfl)
theorem dX6_holds_181 : decode cX6_holds 181 = .ok (.bipush 14, 2) := dk_16 14 (dk_at dksX6_holds_7 20 rfl rfl)
theorem dX6_holds_183 : decode cX6_holds 183 = .ok (.iload 11, 2) := dk_21 11 (dk_at dksX6_holds_7 22 rfl rfl)
theorem dX6_holds_185 : decode cX6_holds 185 = .ok (.imul, 1) := dk_104 (dk_at dksX6_holds_8 0 rfl rfl)
theorem dX6_holds_186 : decode cX6_holds 186 = .ok (.iload 12, 2) := dk_21 12 (dk_at dksX6_holds_8 1 rfl rfl)
theorem dX6_holds_188 : decode cX6_holds 188 = .ok (.iadd, 1) := dk_96 (dk_at dksX6_holds_8 3 rfl rfl)
theorem dX6_holds_189 : decode cX6_holds 189 = .ok (.laload, 1) := dk_47 (dk_at dksX6_holds_8 4 rfl rfl)
theorem dX6_holds_190 : decode cX6_holds 190 = .ok (.aload_n 0, 1) := dk_42 (dk_at dksX6_holds_8 5 rfl rfl)
theorem dX6_holds_191 : decode cX6_holds 191 = .ok (.getfield 78, 3) := dk_180 0 78 (dk_at dksX6_holds_8 6 rfl rfl)
theorem dX6_holds_194 : decode cX6_holds 194 = .ok (.bipush 14, 2) := dk_16 14 (dk_at dksX6_holds_8 9 rfl rfl)
theorem dX6_holds_196 : decode cX6_holds 196 = .ok (.iload 11, 2) := dk_21 11 (dk_at dksX6_holds_8 11 rfl rfl)
theorem dX6_holds_198 : decode cX6_holds 198 = .ok (.imul, 1) := dk_104 (dk_at dksX6_holds_8 13 rfl rfl)
theorem dX6_holds_199 : decode cX6_holds 199 = .ok (.iload 12, 2) := dk_21 12 (dk_at dksX6_holds_8 14 rfl rfl)
theorem dX6_holds_201 : decode cX6_holds 201 = .ok (.iadd, 1) := dk_96 (dk_at dksX6_holds_8 16 rfl rfl)
theorem dX6_holds_202 : decode cX6_holds 202 = .ok (.laload, 1) := dk_47 (dk_at dksX6_holds_8 17 rfl rfl)
theorem dX6_holds_203 : decode cX6_holds 203 = .ok (.ladd, 1) := dk_97 (dk_at dksX6_holds_8 18 rfl rfl)
theorem dX6_holds_204 : decode cX6_holds 204 = .ok (.lstore 13, 2) := dk_55 13 (dk_at dksX6_holds_8 19 rfl rfl)
theorem dX6_holds_206 : decode cX6_holds 206 = .ok (.iload 8, 2) := dk_21 8 (dk_at dksX6_holds_8 21 rfl rfl)
theorem dX6_holds_208 : decode cX6_holds 208 = .ok (.iconst (-1), 1) := dk_2 (dk_at dksX6_holds_8 23 rfl rfl)
theorem dX6_holds_209 : decode cX6_holds 209 = .ok (.if_icmp .eq 14, 3) := dk_159 0 14 (dk_at dksX6_holds_9 0 rfl rfl)
theorem dX6_holds_212 : decode cX6_holds 212 = .ok (.lload 13, 2) := dk_22 13 (dk_at dksX6_holds_9 3 rfl rfl)
theorem dX6_holds_214 : decode cX6_holds 214 = .ok (.lload 9, 2) := dk_22 9 (dk_at dksX6_holds_9 5 rfl rfl)
theorem dX6_holds_216 : decode cX6_holds 216 = .ok (.lcmp, 1) := dk_148 (dk_at dksX6_holds_9 7 rfl rfl)
theorem dX6_holds_217 : decode cX6_holds 217 = .ok (.ifCond .gt 6, 3) := dk_157 0 6 (dk_at dksX6_holds_9 8 rfl rfl)
theorem dX6_holds_220 : decode cX6_holds 220 = .ok (.goto 17, 3) := dk_167 0 17 (dk_at dksX6_holds_9 11 rfl rfl)
theorem dX6_holds_223 : decode cX6_holds 223 = .ok (.bipush 20, 2) := dk_16 20 (dk_at dksX6_holds_9 14 rfl rfl)
theorem dX6_holds_225 : decode cX6_holds 225 = .ok (.iload 11, 2) := dk_21 11 (dk_at dksX6_holds_9 16 rfl rfl)
theorem dX6_holds_227 : decode cX6_holds 227 = .ok (.imul, 1) := dk_104 (dk_at dksX6_holds_9 18 rfl rfl)
theorem dX6_holds_228 : decode cX6_holds 228 = .ok (.iload 12, 2) := dk_21 12 (dk_at dksX6_holds_9 19 rfl rfl)
theorem dX6_holds_230 : decode cX6_holds 230 = .ok (.iadd, 1) := dk_96 (dk_at dksX6_holds_9 21 rfl rfl)
theorem dX6_holds_231 : decode cX6_holds 231 = .ok (.istore 8, 2) := dk_54 8 (dk_at dksX6_holds_9 22 rfl rfl)
theorem dX6_holds_233 : decode cX6_holds 233 = .ok (.lload 13, 2) := dk_22 13 (dk_at dksX6_holds_10 0 rfl rfl)
theorem dX6_holds_235 : decode cX6_holds 235 = .ok (.lstore 9, 2) := dk_55 9 (dk_at dksX6_holds_10 2 rfl rfl)
theorem dX6_holds_237 : decode cX6_holds 237 = .ok (.iinc 12 1, 3) := dk_132 12 1 (dk_at dksX6_holds_10 4 rfl rfl)
theorem dX6_holds_240 : decode cX6_holds 240 = .ok (.goto (-106), 3) := dk_167 255 150 (dk_at dksX6_holds_10 7 rfl rfl)
theorem dX6_holds_243 : decode cX6_holds 243 = .ok (.iinc 11 1, 3) := dk_132 11 1 (dk_at dksX6_holds_10 10 rfl rfl)
theorem dX6_holds_246 : decode cX6_holds 246 = .ok (.goto (-122), 3) := dk_167 255 134 (dk_at dksX6_holds_10 13 rfl rfl)
theorem dX6_holds_249 : decode cX6_holds 249 = .ok (.iload 5, 2) := dk_21 5 (dk_at dksX6_holds_10 16 rfl rfl)
theorem dX6_holds_251 : decode cX6_holds 251 = .ok (.ifCond .ne 8, 3) := dk_154 0 8 (dk_at dksX6_holds_10 18 rfl rfl)
theorem dX6_holds_254 : decode cX6_holds 254 = .ok (.iload 6, 2) := dk_21 6 (dk_at dksX6_holds_10 21 rfl rfl)
theorem dX6_holds_256 : decode cX6_holds 256 = .ok (.goto 16, 3) := dk_167 0 16 (dk_at dksX6_holds_11 0 rfl rfl)
theorem dX6_holds_259 : decode cX6_holds 259 = .ok (.iload 5, 2) := dk_21 5 (dk_at dksX6_holds_11 3 rfl rfl)
theorem dX6_holds_261 : decode cX6_holds 261 = .ok (.iconst 1, 1) := dk_4 (dk_at dksX6_holds_11 5 rfl rfl)
theorem dX6_holds_262 : decode cX6_holds 262 = .ok (.if_icmp .ne 8, 3) := dk_160 0 8 (dk_at dksX6_holds_11 6 rfl rfl)
theorem dX6_holds_265 : decode cX6_holds 265 = .ok (.iload 7, 2) := dk_21 7 (dk_at dksX6_holds_11 9 rfl rfl)
theorem dX6_holds_267 : decode cX6_holds 267 = .ok (.goto 5, 3) := dk_167 0 5 (dk_at dksX6_holds_11 11 rfl rfl)
theorem dX6_holds_270 : decode cX6_holds 270 = .ok (.iload 8, 2) := dk_21 8 (dk_at dksX6_holds_11 14 rfl rfl)
theorem dX6_holds_272 : decode cX6_holds 272 = .ok (.ireturn, 1) := dk_172 (dk_at dksX6_holds_11 16 rfl rfl)
abbrev cX6_holdsAt : ByteArray := prog_17_method_76_code
def yX6_holdsAt : MethodName := ⟨RX6, "holdsAt", "(II)Z"⟩
def dkwX6_holdsAt_2 : List UInt8 := [180, 0, 78, 16, 14, 27, 104, 28, 96, 47, 148, 158, 0, 5, 3, 172, 132, 3, 1, 167, 255, 193, 4, 172]
abbrev dktX6_holdsAt_2 : List UInt8 := dkwX6_holdsAt_2 ++ []
def dkwX6_holdsAt_1 : List UInt8 := [16, 14, 27, 104, 28, 96, 47, 148, 157, 0, 29, 42, 180, 0, 78, 16, 14, 27, 104, 29, 96, 47, 42]
abbrev dktX6_holdsAt_1 : List UInt8 := dkwX6_holdsAt_1 ++ dktX6_holdsAt_2
def dkwX6_holdsAt_0 : List UInt8 := [4, 62, 29, 16, 13, 163, 0, 63, 42, 180, 0, 75, 16, 14, 29, 104, 28, 96, 47, 42, 180, 0, 75]
abbrev dktX6_holdsAt_0 : List UInt8 := dkwX6_holdsAt_0 ++ dktX6_holdsAt_1
theorem dksX6_holdsAt_0 : cX6_holdsAt.data.toList.drop 0 = dktX6_holdsAt_0 := by decide +kernel
theorem dksX6_holdsAt_1 : cX6_holdsAt.data.toList.drop 23 = dktX6_holdsAt_1 := dk_seg dksX6_holdsAt_0 23 rfl rfl
theorem dksX6_holdsAt_2 : cX6_holdsAt.data.toList.drop 46 = dktX6_holdsAt_2 := dk_seg dksX6_holdsAt_1 23 rfl rfl
theorem dX6_holdsAt_0 : decode cX6_holdsAt 0 = .ok (.iconst 1, 1) := dk_4 (dk_at dksX6_holdsAt_0 0 rfl rfl)
theorem dX6_holdsAt_1 : decode cX6_holdsAt 1 = .ok (.istore_n 3, 1) := dk_62 (dk_at dksX6_holdsAt_0 1 rfl rfl)
theorem dX6_holdsAt_2 : decode cX6_holdsAt 2 = .ok (.iload_n 3, 1) := dk_29 (dk_at dksX6_holdsAt_0 2 rfl rfl)
theorem dX6_holdsAt_3 : decode cX6_holdsAt 3 = .ok (.bipush 13, 2) := dk_16 13 (dk_at dksX6_holdsAt_0 3 rfl rfl)
theorem dX6_holdsAt_5 : decode cX6_holdsAt 5 = .ok (.if_icmp .gt 63, 3) := dk_163 0 63 (dk_at dksX6_holdsAt_0 5 rfl rfl)
theorem dX6_holdsAt_8 : decode cX6_holdsAt 8 = .ok (.aload_n 0, 1) := dk_42 (dk_at dksX6_holdsAt_0 8 rfl rfl)
theorem dX6_holdsAt_9 : decode cX6_holdsAt 9 = .ok (.getfield 75, 3) := dk_180 0 75 (dk_at dksX6_holdsAt_0 9 rfl rfl)
theorem dX6_holdsAt_12 : decode cX6_holdsAt 12 = .ok (.bipush 14, 2) := dk_16 14 (dk_at dksX6_holdsAt_0 12 rfl rfl)
theorem dX6_holdsAt_14 : decode cX6_holdsAt 14 = .ok (.iload_n 3, 1) := dk_29 (dk_at dksX6_holdsAt_0 14 rfl rfl)
theorem dX6_holdsAt_15 : decode cX6_holdsAt 15 = .ok (.imul, 1) := dk_104 (dk_at dksX6_holdsAt_0 15 rfl rfl)
theorem dX6_holdsAt_16 : decode cX6_holdsAt 16 = .ok (.iload_n 2, 1) := dk_28 (dk_at dksX6_holdsAt_0 16 rfl rfl)
theorem dX6_holdsAt_17 : decode cX6_holdsAt 17 = .ok (.iadd, 1) := dk_96 (dk_at dksX6_holdsAt_0 17 rfl rfl)
theorem dX6_holdsAt_18 : decode cX6_holdsAt 18 = .ok (.laload, 1) := dk_47 (dk_at dksX6_holdsAt_0 18 rfl rfl)
theorem dX6_holdsAt_19 : decode cX6_holdsAt 19 = .ok (.aload_n 0, 1) := dk_42 (dk_at dksX6_holdsAt_0 19 rfl rfl)
theorem dX6_holdsAt_20 : decode cX6_holdsAt 20 = .ok (.getfield 75, 3) := dk_180 0 75 (dk_at dksX6_holdsAt_0 20 rfl rfl)
theorem dX6_holdsAt_23 : decode cX6_holdsAt 23 = .ok (.bipush 14, 2) := dk_16 14 (dk_at dksX6_holdsAt_1 0 rfl rfl)
theorem dX6_holdsAt_25 : decode cX6_holdsAt 25 = .ok (.iload_n 1, 1) := dk_27 (dk_at dksX6_holdsAt_1 2 rfl rfl)
theorem dX6_holdsAt_26 : decode cX6_holdsAt 26 = .ok (.imul, 1) := dk_104 (dk_at dksX6_holdsAt_1 3 rfl rfl)
theorem dX6_holdsAt_27 : decode cX6_holdsAt 27 = .ok (.iload_n 2, 1) := dk_28 (dk_at dksX6_holdsAt_1 4 rfl rfl)
theorem dX6_holdsAt_28 : decode cX6_holdsAt 28 = .ok (.iadd, 1) := dk_96 (dk_at dksX6_holdsAt_1 5 rfl rfl)
theorem dX6_holdsAt_29 : decode cX6_holdsAt 29 = .ok (.laload, 1) := dk_47 (dk_at dksX6_holdsAt_1 6 rfl rfl)
theorem dX6_holdsAt_30 : decode cX6_holdsAt 30 = .ok (.lcmp, 1) := dk_148 (dk_at dksX6_holdsAt_1 7 rfl rfl)
theorem dX6_holdsAt_31 : decode cX6_holdsAt 31 = .ok (.ifCond .gt 29, 3) := dk_157 0 29 (dk_at dksX6_holdsAt_1 8 rfl rfl)
theorem dX6_holdsAt_34 : decode cX6_holdsAt 34 = .ok (.aload_n 0, 1) := dk_42 (dk_at dksX6_holdsAt_1 11 rfl rfl)
theorem dX6_holdsAt_35 : decode cX6_holdsAt 35 = .ok (.getfield 78, 3) := dk_180 0 78 (dk_at dksX6_holdsAt_1 12 rfl rfl)
theorem dX6_holdsAt_38 : decode cX6_holdsAt 38 = .ok (.bipush 14, 2) := dk_16 14 (dk_at dksX6_holdsAt_1 15 rfl rfl)
theorem dX6_holdsAt_40 : decode cX6_holdsAt 40 = .ok (.iload_n 1, 1) := dk_27 (dk_at dksX6_holdsAt_1 17 rfl rfl)
theorem dX6_holdsAt_41 : decode cX6_holdsAt 41 = .ok (.imul, 1) := dk_104 (dk_at dksX6_holdsAt_1 18 rfl rfl)
theorem dX6_holdsAt_42 : decode cX6_holdsAt 42 = .ok (.iload_n 3, 1) := dk_29 (dk_at dksX6_holdsAt_1 19 rfl rfl)
theorem dX6_holdsAt_43 : decode cX6_holdsAt 43 = .ok (.iadd, 1) := dk_96 (dk_at dksX6_holdsAt_1 20 rfl rfl)
theorem dX6_holdsAt_44 : decode cX6_holdsAt 44 = .ok (.laload, 1) := dk_47 (dk_at dksX6_holdsAt_1 21 rfl rfl)
theorem dX6_holdsAt_45 : decode cX6_holdsAt 45 = .ok (.aload_n 0, 1) := dk_42 (dk_at dksX6_holdsAt_1 22 rfl rfl)
theorem dX6_holdsAt_46 : decode cX6_holdsAt 46 = .ok (.getfield 78, 3) := dk_180 0 78 (dk_at dksX6_holdsAt_2 0 rfl rfl)
theorem dX6_holdsAt_49 : decode cX6_holdsAt 49 = .ok (.bipush 14, 2) := dk_16 14 (dk_at dksX6_holdsAt_2 3 rfl rfl)
theorem dX6_holdsAt_51 : decode cX6_holdsAt 51 = .ok (.iload_n 1, 1) := dk_27 (dk_at dksX6_holdsAt_2 5 rfl rfl)
theorem dX6_holdsAt_52 : decode cX6_holdsAt 52 = .ok (.imul, 1) := dk_104 (dk_at dksX6_holdsAt_2 6 rfl rfl)
theorem dX6_holdsAt_53 : decode cX6_holdsAt 53 = .ok (.iload_n 2, 1) := dk_28 (dk_at dksX6_holdsAt_2 7 rfl rfl)
theorem dX6_holdsAt_54 : decode cX6_holdsAt 54 = .ok (.iadd, 1) := dk_96 (dk_at dksX6_holdsAt_2 8 rfl rfl)
theorem dX6_holdsAt_55 : decode cX6_holdsAt 55 = .ok (.laload, 1) := dk_47 (dk_at dksX6_holdsAt_2 9 rfl rfl)
theorem dX6_holdsAt_56 : decode cX6_holdsAt 56 = .ok (.lcmp, 1) := dk_148 (dk_at dksX6_holdsAt_2 10 rfl rfl)
theorem dX6_holdsAt_57 : decode cX6_holdsAt 57 = .ok (.ifCond .le 5, 3) := dk_158 0 5 (dk_at dksX6_holdsAt_2 11 rfl rfl)
theorem dX6_holdsAt_60 : decode cX6_holdsAt 60 = .ok (.iconst 0, 1) := dk_3 (dk_at dksX6_holdsAt_2 14 rfl rfl)
theorem dX6_holdsAt_61 : decode cX6_holdsAt 61 = .ok (.ireturn, 1) := dk_172 (dk_at dksX6_holdsAt_2 15 rfl rfl)
theorem dX6_holdsAt_62 : decode cX6_holdsAt 62 = .ok (.iinc 3 1, 3) := dk_132 3 1 (dk_at dksX6_holdsAt_2 16 rfl rfl)
theorem dX6_holdsAt_65 : decode cX6_holdsAt 65 = .ok (.goto (-63), 3) := dk_167 255 193 (dk_at dksX6_holdsAt_2 19 rfl rfl)
theorem dX6_holdsAt_68 : decode cX6_holdsAt 68 = .ok (.iconst 1, 1) := dk_4 (dk_at dksX6_holdsAt_2 22 rfl rfl)
theorem dX6_holdsAt_69 : decode cX6_holdsAt 69 = .ok (.ireturn, 1) := dk_172 (dk_at dksX6_holdsAt_2 23 rfl rfl)
abbrev cX6_safe : ByteArray := prog_17_method_78_code
def yX6_safe : MethodName := ⟨RX6, "safe", "()I"⟩
def dkwX6_safe_3 : List UInt8 := [172]
abbrev dktX6_safe_3 : List UInt8 := dkwX6_safe_3 ++ []
def dkwX6_safe_2 : List UInt8 := [62, 132, 4, 1, 167, 255, 226, 29, 153, 0, 9, 27, 4, 28, 120, 128, 60, 132, 2, 1, 167, 255, 197, 27]
abbrev dktX6_safe_2 : List UInt8 := dkwX6_safe_2 ++ dktX6_safe_3
def dkwX6_safe_1 : List UInt8 := [16, 12, 163, 0, 29, 29, 153, 0, 25, 42, 28, 21, 4, 182, 0, 232, 154, 0, 7, 4, 167, 0, 4, 3]
abbrev dktX6_safe_1 : List UInt8 := dkwX6_safe_1 ++ dktX6_safe_2
def dkwX6_safe_0 : List UInt8 := [42, 3, 181, 0, 90, 3, 60, 3, 61, 28, 42, 180, 0, 98, 162, 0, 57, 4, 62, 4, 54, 4, 21, 4]
abbrev dktX6_safe_0 : List UInt8 := dkwX6_safe_0 ++ dktX6_safe_1
theorem dksX6_safe_0 : cX6_safe.data.toList.drop 0 = dktX6_safe_0 := by decide +kernel
theorem dksX6_safe_1 : cX6_safe.data.toList.drop 24 = dktX6_safe_1 := dk_seg dksX6_safe_0 24 rfl rfl
theorem dksX6_safe_2 : cX6_safe.data.toList.drop 48 = dktX6_safe_2 := dk_seg dksX6_safe_1 24 rfl rfl
theorem dksX6_safe_3 : cX6_safe.data.toList.drop 72 = dktX6_safe_3 := dk_seg dksX6_safe_2 24 rfl rfl
theorem dX6_safe_0 : decode cX6_safe 0 = .ok (.aload_n 0, 1) := dk_42 (dk_at dksX6_safe_0 0 rfl rfl)
theorem dX6_safe_1 : decode cX6_safe 1 = .ok (.iconst 0, 1) := dk_3 (dk_at dksX6_safe_0 1 rfl rfl)
theorem dX6_safe_2 : decode cX6_safe 2 = .ok (.putfield 90, 3) := dk_181 0 90 (dk_at dksX6_safe_0 2 rfl rfl)
theorem dX6_safe_5 : decode cX6_safe 5 = .ok (.iconst 0, 1) := dk_3 (dk_at dksX6_safe_0 5 rfl rfl)
theorem dX6_safe_6 : decode cX6_safe 6 = .ok (.istore_n 1, 1) := dk_60 (dk_at dksX6_safe_0 6 rfl rfl)
theorem dX6_safe_7 : decode cX6_safe 7 = .ok (.iconst 0, 1) := dk_3 (dk_at dksX6_safe_0 7 rfl rfl)
theorem dX6_safe_8 : decode cX6_safe 8 = .ok (.istore_n 2, 1) := dk_61 (dk_at dksX6_safe_0 8 rfl rfl)
theorem dX6_safe_9 : decode cX6_safe 9 = .ok (.iload_n 2, 1) := dk_28 (dk_at dksX6_safe_0 9 rfl rfl)
theorem dX6_safe_10 : decode cX6_safe 10 = .ok (.aload_n 0, 1) := dk_42 (dk_at dksX6_safe_0 10 rfl rfl)
theorem dX6_safe_11 : decode cX6_safe 11 = .ok (.getfield 98, 3) := dk_180 0 98 (dk_at dksX6_safe_0 11 rfl rfl)
theorem dX6_safe_14 : decode cX6_safe 14 = .ok (.if_icmp .ge 57, 3) := dk_162 0 57 (dk_at dksX6_safe_0 14 rfl rfl)
theorem dX6_safe_17 : decode cX6_safe 17 = .ok (.iconst 1, 1) := dk_4 (dk_at dksX6_safe_0 17 rfl rfl)
theorem dX6_safe_18 : decode cX6_safe 18 = .ok (.istore_n 3, 1) := dk_62 (dk_at dksX6_safe_0 18 rfl rfl)
theorem dX6_safe_19 : decode cX6_safe 19 = .ok (.iconst 1, 1) := dk_4 (dk_at dksX6_safe_0 19 rfl rfl)
theorem dX6_safe_20 : decode cX6_safe 20 = .ok (.istore 4, 2) := dk_54 4 (dk_at dksX6_safe_0 20 rfl rfl)
theorem dX6_safe_22 : decode cX6_safe 22 = .ok (.iload 4, 2) := dk_21 4 (dk_at dksX6_safe_0 22 rfl rfl)
theorem dX6_safe_24 : decode cX6_safe 24 = .ok (.bipush 12, 2) := dk_16 12 (dk_at dksX6_safe_1 0 rfl rfl)
theorem dX6_safe_26 : decode cX6_safe 26 = .ok (.if_icmp .gt 29, 3) := dk_163 0 29 (dk_at dksX6_safe_1 2 rfl rfl)
theorem dX6_safe_29 : decode cX6_safe 29 = .ok (.iload_n 3, 1) := dk_29 (dk_at dksX6_safe_1 5 rfl rfl)
theorem dX6_safe_30 : decode cX6_safe 30 = .ok (.ifCond .eq 25, 3) := dk_153 0 25 (dk_at dksX6_safe_1 6 rfl rfl)
theorem dX6_safe_33 : decode cX6_safe 33 = .ok (.aload_n 0, 1) := dk_42 (dk_at dksX6_safe_1 9 rfl rfl)
theorem dX6_safe_34 : decode cX6_safe 34 = .ok (.iload_n 2, 1) := dk_28 (dk_at dksX6_safe_1 10 rfl rfl)
theorem dX6_safe_35 : decode cX6_safe 35 = .ok (.iload 4, 2) := dk_21 4 (dk_at dksX6_safe_1 11 rfl rfl)
theorem dX6_safe_37 : decode cX6_safe 37 = .ok (.invokevirtual 232, 3) := dk_182 0 232 (dk_at dksX6_safe_1 13 rfl rfl)
theorem dX6_safe_40 : decode cX6_safe 40 = .ok (.ifCond .ne 7, 3) := dk_154 0 7 (dk_at dksX6_safe_1 16 rfl rfl)
theorem dX6_safe_43 : decode cX6_safe 43 = .ok (.iconst 1, 1) := dk_4 (dk_at dksX6_safe_1 19 rfl rfl)
theorem dX6_safe_44 : decode cX6_safe 44 = .ok (.goto 4, 3) := dk_167 0 4 (dk_at dksX6_safe_1 20 rfl rfl)
theorem dX6_safe_47 : decode cX6_safe 47 = .ok (.iconst 0, 1) := dk_3 (dk_at dksX6_safe_1 23 rfl rfl)
theorem dX6_safe_48 : decode cX6_safe 48 = .ok (.istore_n 3, 1) := dk_62 (dk_at dksX6_safe_2 0 rfl rfl)
theorem dX6_safe_49 : decode cX6_safe 49 = .ok (.iinc 4 1, 3) := dk_132 4 1 (dk_at dksX6_safe_2 1 rfl rfl)
theorem dX6_safe_52 : decode cX6_safe 52 = .ok (.goto (-30), 3) := dk_167 255 226 (dk_at dksX6_safe_2 4 rfl rfl)
theorem dX6_safe_55 : decode cX6_safe 55 = .ok (.iload_n 3, 1) := dk_29 (dk_at dksX6_safe_2 7 rfl rfl)
theorem dX6_safe_56 : decode cX6_safe 56 = .ok (.ifCond .eq 9, 3) := dk_153 0 9 (dk_at dksX6_safe_2 8 rfl rfl)
theorem dX6_safe_59 : decode cX6_safe 59 = .ok (.iload_n 1, 1) := dk_27 (dk_at dksX6_safe_2 11 rfl rfl)
theorem dX6_safe_60 : decode cX6_safe 60 = .ok (.iconst 1, 1) := dk_4 (dk_at dksX6_safe_2 12 rfl rfl)
theorem dX6_safe_61 : decode cX6_safe 61 = .ok (.iload_n 2, 1) := dk_28 (dk_at dksX6_safe_2 13 rfl rfl)
theorem dX6_safe_62 : decode cX6_safe 62 = .ok (.ishl, 1) := dk_120 (dk_at dksX6_safe_2 14 rfl rfl)
theorem dX6_safe_63 : decode cX6_safe 63 = .ok (.ior, 1) := dk_128 (dk_at dksX6_safe_2 15 rfl rfl)
theorem dX6_safe_64 : decode cX6_safe 64 = .ok (.istore_n 1, 1) := dk_60 (dk_at dksX6_safe_2 16 rfl rfl)
theorem dX6_safe_65 : decode cX6_safe 65 = .ok (.iinc 2 1, 3) := dk_132 2 1 (dk_at dksX6_safe_2 17 rfl rfl)
theorem dX6_safe_68 : decode cX6_safe 68 = .ok (.goto (-59), 3) := dk_167 255 197 (dk_at dksX6_safe_2 20 rfl rfl)
theorem dX6_safe_71 : decode cX6_safe 71 = .ok (.iload_n 1, 1) := dk_27 (dk_at dksX6_safe_2 23 rfl rfl)
theorem dX6_safe_72 : decode cX6_safe 72 = .ok (.ireturn, 1) := dk_172 (dk_at dksX6_safe_3 0 rfl rfl)
abbrev cX6_named : ByteArray := prog_17_method_80_code
def yX6_named : MethodName := ⟨RX6, "named", "(I)I"⟩
def dkwX6_named_2 : List UInt8 := [96, 62, 132, 4, 1, 167, 255, 224, 29, 27, 160, 0, 5, 28, 172, 132, 2, 1, 167, 255, 198, 2, 172]
abbrev dktX6_named_2 : List UInt8 := dkwX6_named_2 ++ []
def dkwX6_named_1 : List UInt8 := [180, 0, 98, 162, 0, 29, 21, 4, 28, 159, 0, 17, 42, 21, 4, 28, 182, 1, 119, 153, 0, 7, 29, 4]
abbrev dktX6_named_1 : List UInt8 := dkwX6_named_1 ++ dktX6_named_2
def dkwX6_named_0 : List UInt8 := [42, 3, 181, 0, 90, 3, 61, 28, 42, 180, 0, 98, 162, 0, 56, 3, 62, 3, 54, 4, 21, 4, 42]
abbrev dktX6_named_0 : List UInt8 := dkwX6_named_0 ++ dktX6_named_1
theorem dksX6_named_0 : cX6_named.data.toList.drop 0 = dktX6_named_0 := by decide +kernel
theorem dksX6_named_1 : cX6_named.data.toList.drop 23 = dktX6_named_1 := dk_seg dksX6_named_0 23 rfl rfl
theorem dksX6_named_2 : cX6_named.data.toList.drop 47 = dktX6_named_2 := dk_seg dksX6_named_1 24 rfl rfl
theorem dX6_named_0 : decode cX6_named 0 = .ok (.aload_n 0, 1) := dk_42 (dk_at dksX6_named_0 0 rfl rfl)
theorem dX6_named_1 : decode cX6_named 1 = .ok (.iconst 0, 1) := dk_3 (dk_at dksX6_named_0 1 rfl rfl)
theorem dX6_named_2 : decode cX6_named 2 = .ok (.putfield 90, 3) := dk_181 0 90 (dk_at dksX6_named_0 2 rfl rfl)
theorem dX6_named_5 : decode cX6_named 5 = .ok (.iconst 0, 1) := dk_3 (dk_at dksX6_named_0 5 rfl rfl)
theorem dX6_named_6 : decode cX6_named 6 = .ok (.istore_n 2, 1) := dk_61 (dk_at dksX6_named_0 6 rfl rfl)
theorem dX6_named_7 : decode cX6_named 7 = .ok (.iload_n 2, 1) := dk_28 (dk_at dksX6_named_0 7 rfl rfl)
theorem dX6_named_8 : decode cX6_named 8 = .ok (.aload_n 0, 1) := dk_42 (dk_at dksX6_named_0 8 rfl rfl)
theorem dX6_named_9 : decode cX6_named 9 = .ok (.getfield 98, 3) := dk_180 0 98 (dk_at dksX6_named_0 9 rfl rfl)
theorem dX6_named_12 : decode cX6_named 12 = .ok (.if_icmp .ge 56, 3) := dk_162 0 56 (dk_at dksX6_named_0 12 rfl rfl)
theorem dX6_named_15 : decode cX6_named 15 = .ok (.iconst 0, 1) := dk_3 (dk_at dksX6_named_0 15 rfl rfl)
theorem dX6_named_16 : decode cX6_named 16 = .ok (.istore_n 3, 1) := dk_62 (dk_at dksX6_named_0 16 rfl rfl)
theorem dX6_named_17 : decode cX6_named 17 = .ok (.iconst 0, 1) := dk_3 (dk_at dksX6_named_0 17 rfl rfl)
theorem dX6_named_18 : decode cX6_named 18 = .ok (.istore 4, 2) := dk_54 4 (dk_at dksX6_named_0 18 rfl rfl)
theorem dX6_named_20 : decode cX6_named 20 = .ok (.iload 4, 2) := dk_21 4 (dk_at dksX6_named_0 20 rfl rfl)
theorem dX6_named_22 : decode cX6_named 22 = .ok (.aload_n 0, 1) := dk_42 (dk_at dksX6_named_0 22 rfl rfl)
theorem dX6_named_23 : decode cX6_named 23 = .ok (.getfield 98, 3) := dk_180 0 98 (dk_at dksX6_named_1 0 rfl rfl)
theorem dX6_named_26 : decode cX6_named 26 = .ok (.if_icmp .ge 29, 3) := dk_162 0 29 (dk_at dksX6_named_1 3 rfl rfl)
theorem dX6_named_29 : decode cX6_named 29 = .ok (.iload 4, 2) := dk_21 4 (dk_at dksX6_named_1 6 rfl rfl)
theorem dX6_named_31 : decode cX6_named 31 = .ok (.iload_n 2, 1) := dk_28 (dk_at dksX6_named_1 8 rfl rfl)
theorem dX6_named_32 : decode cX6_named 32 = .ok (.if_icmp .eq 17, 3) := dk_159 0 17 (dk_at dksX6_named_1 9 rfl rfl)
theorem dX6_named_35 : decode cX6_named 35 = .ok (.aload_n 0, 1) := dk_42 (dk_at dksX6_named_1 12 rfl rfl)
theorem dX6_named_36 : decode cX6_named 36 = .ok (.iload 4, 2) := dk_21 4 (dk_at dksX6_named_1 13 rfl rfl)
theorem dX6_named_38 : decode cX6_named 38 = .ok (.iload_n 2, 1) := dk_28 (dk_at dksX6_named_1 15 rfl rfl)
theorem dX6_named_39 : decode cX6_named 39 = .ok (.invokevirtual 375, 3) := dk_182 1 119 (dk_at dksX6_named_1 16 rfl rfl)
theorem dX6_named_42 : decode cX6_named 42 = .ok (.ifCond .eq 7, 3) := dk_153 0 7 (dk_at dksX6_named_1 19 rfl rfl)
theorem dX6_named_45 : decode cX6_named 45 = .ok (.iload_n 3, 1) := dk_29 (dk_at dksX6_named_1 22 rfl rfl)
theorem dX6_named_46 : decode cX6_named 46 = .ok (.iconst 1, 1) := dk_4 (dk_at dksX6_named_1 23 rfl rfl)
theorem dX6_named_47 : decode cX6_named 47 = .ok (.iadd, 1) := dk_96 (dk_at dksX6_named_2 0 rfl rfl)
theorem dX6_named_48 : decode cX6_named 48 = .ok (.istore_n 3, 1) := dk_62 (dk_at dksX6_named_2 1 rfl rfl)
theorem dX6_named_49 : decode cX6_named 49 = .ok (.iinc 4 1, 3) := dk_132 4 1 (dk_at dksX6_named_2 2 rfl rfl)
theorem dX6_named_52 : decode cX6_named 52 = .ok (.goto (-32), 3) := dk_167 255 224 (dk_at dksX6_named_2 5 rfl rfl)
theorem dX6_named_55 : decode cX6_named 55 = .ok (.iload_n 3, 1) := dk_29 (dk_at dksX6_named_2 8 rfl rfl)
theorem dX6_named_56 : decode cX6_named 56 = .ok (.iload_n 1, 1) := dk_27 (dk_at dksX6_named_2 9 rfl rfl)
theorem dX6_named_57 : decode cX6_named 57 = .ok (.if_icmp .ne 5, 3) := dk_160 0 5 (dk_at dksX6_named_2 10 rfl rfl)
theorem dX6_named_60 : decode cX6_named 60 = .ok (.iload_n 2, 1) := dk_28 (dk_at dksX6_named_2 13 rfl rfl)
theorem dX6_named_61 : decode cX6_named 61 = .ok (.ireturn, 1) := dk_172 (dk_at dksX6_named_2 14 rfl rfl)
theorem dX6_named_62 : decode cX6_named 62 = .ok (.iinc 2 1, 3) := dk_132 2 1 (dk_at dksX6_named_2 15 rfl rfl)
theorem dX6_named_65 : decode cX6_named 65 = .ok (.goto (-58), 3) := dk_167 255 198 (dk_at dksX6_named_2 18 rfl rfl)
theorem dX6_named_68 : decode cX6_named 68 = .ok (.iconst (-1), 1) := dk_2 (dk_at dksX6_named_2 21 rfl rfl)
theorem dX6_named_69 : decode cX6_named 69 = .ok (.ireturn, 1) := dk_172 (dk_at dksX6_named_2 22 rfl rfl)
abbrev cX6_isAhead : ByteArray := prog_17_method_79_code
def yX6_isAhead : MethodName := ⟨RX6, "isAhead", "(II)Z"⟩
def dkwX6_isAhead_3 : List UInt8 := [164, 0, 7, 4, 167, 0, 4, 3, 172, 27, 28, 162, 0, 7, 4, 167, 0, 4, 3, 172]
abbrev dktX6_isAhead_3 : List UInt8 := dkwX6_isAhead_3 ++ []
def dkwX6_isAhead_2 : List UInt8 := [182, 0, 101, 42, 28, 7, 182, 0, 101, 159, 0, 24, 42, 27, 7, 182, 0, 101, 42, 28, 7, 182, 0, 101]
abbrev dktX6_isAhead_2 : List UInt8 := dkwX6_isAhead_2 ++ dktX6_isAhead_3
def dkwX6_isAhead_1 : List UInt8 := [182, 0, 101, 96, 62, 29, 153, 0, 13, 29, 158, 0, 7, 4, 167, 0, 4, 3, 172, 42, 27, 7]
abbrev dktX6_isAhead_1 : List UInt8 := dkwX6_isAhead_1 ++ dktX6_isAhead_2
def dkwX6_isAhead_0 : List UInt8 := [42, 27, 5, 182, 0, 101, 42, 27, 6, 182, 0, 101, 100, 42, 28, 5, 182, 0, 101, 100, 42, 28, 6]
abbrev dktX6_isAhead_0 : List UInt8 := dkwX6_isAhead_0 ++ dktX6_isAhead_1
theorem dksX6_isAhead_0 : cX6_isAhead.data.toList.drop 0 = dktX6_isAhead_0 := by decide +kernel
theorem dksX6_isAhead_1 : cX6_isAhead.data.toList.drop 23 = dktX6_isAhead_1 := dk_seg dksX6_isAhead_0 23 rfl rfl
theorem dksX6_isAhead_2 : cX6_isAhead.data.toList.drop 45 = dktX6_isAhead_2 := dk_seg dksX6_isAhead_1 22 rfl rfl
theorem dksX6_isAhead_3 : cX6_isAhead.data.toList.drop 69 = dktX6_isAhead_3 := dk_seg dksX6_isAhead_2 24 rfl rfl
theorem dX6_isAhead_0 : decode cX6_isAhead 0 = .ok (.aload_n 0, 1) := dk_42 (dk_at dksX6_isAhead_0 0 rfl rfl)
theorem dX6_isAhead_1 : decode cX6_isAhead 1 = .ok (.iload_n 1, 1) := dk_27 (dk_at dksX6_isAhead_0 1 rfl rfl)
theorem dX6_isAhead_2 : decode cX6_isAhead 2 = .ok (.iconst 2, 1) := dk_5 (dk_at dksX6_isAhead_0 2 rfl rfl)
theorem dX6_isAhead_3 : decode cX6_isAhead 3 = .ok (.invokevirtual 101, 3) := dk_182 0 101 (dk_at dksX6_isAhead_0 3 rfl rfl)
theorem dX6_isAhead_6 : decode cX6_isAhead 6 = .ok (.aload_n 0, 1) := dk_42 (dk_at dksX6_isAhead_0 6 rfl rfl)
theorem dX6_isAhead_7 : decode cX6_isAhead 7 = .ok (.iload_n 1, 1) := dk_27 (dk_at dksX6_isAhead_0 7 rfl rfl)
theorem dX6_isAhead_8 : decode cX6_isAhead 8 = .ok (.iconst 3, 1) := dk_6 (dk_at dksX6_isAhead_0 8 rfl rfl)
theorem dX6_isAhead_9 : decode cX6_isAhead 9 = .ok (.invokevirtual 101, 3) := dk_182 0 101 (dk_at dksX6_isAhead_0 9 rfl rfl)
theorem dX6_isAhead_12 : decode cX6_isAhead 12 = .ok (.isub, 1) := dk_100 (dk_at dksX6_isAhead_0 12 rfl rfl)
theorem dX6_isAhead_13 : decode cX6_isAhead 13 = .ok (.aload_n 0, 1) := dk_42 (dk_at dksX6_isAhead_0 13 rfl rfl)
theorem dX6_isAhead_14 : decode cX6_isAhead 14 = .ok (.iload_n 2, 1) := dk_28 (dk_at dksX6_isAhead_0 14 rfl rfl)
theorem dX6_isAhead_15 : decode cX6_isAhead 15 = .ok (.iconst 2, 1) := dk_5 (dk_at dksX6_isAhead_0 15 rfl rfl)
theorem dX6_isAhead_16 : decode cX6_isAhead 16 = .ok (.invokevirtual 101, 3) := dk_182 0 101 (dk_at dksX6_isAhead_0 16 rfl rfl)
theorem dX6_isAhead_19 : decode cX6_isAhead 19 = .ok (.isub, 1) := dk_100 (dk_at dksX6_isAhead_0 19 rfl rfl)
theorem dX6_isAhead_20 : decode cX6_isAhead 20 = .ok (.aload_n 0, 1) := dk_42 (dk_at dksX6_isAhead_0 20 rfl rfl)
theorem dX6_isAhead_21 : decode cX6_isAhead 21 = .ok (.iload_n 2, 1) := dk_28 (dk_at dksX6_isAhead_0 21 rfl rfl)
theorem dX6_isAhead_22 : decode cX6_isAhead 22 = .ok (.iconst 3, 1) := dk_6 (dk_at dksX6_isAhead_0 22 rfl rfl)
theorem dX6_isAhead_23 : decode cX6_isAhead 23 = .ok (.invokevirtual 101, 3) := dk_182 0 101 (dk_at dksX6_isAhead_1 0 rfl rfl)
theorem dX6_isAhead_26 : decode cX6_isAhead 26 = .ok (.iadd, 1) := dk_96 (dk_at dksX6_isAhead_1 3 rfl rfl)
theorem dX6_isAhead_27 : decode cX6_isAhead 27 = .ok (.istore_n 3, 1) := dk_62 (dk_at dksX6_isAhead_1 4 rfl rfl)
theorem dX6_isAhead_28 : decode cX6_isAhead 28 = .ok (.iload_n 3, 1) := dk_29 (dk_at dksX6_isAhead_1 5 rfl rfl)
theorem dX6_isAhead_29 : decode cX6_isAhead 29 = .ok (.ifCond .eq 13, 3) := dk_153 0 13 (dk_at dksX6_isAhead_1 6 rfl rfl)
theorem dX6_isAhead_32 : decode cX6_isAhead 32 = .ok (.iload_n 3, 1) := dk_29 (dk_at dksX6_isAhead_1 9 rfl rfl)
theorem dX6_isAhead_33 : decode cX6_isAhead 33 = .ok (.ifCond .le 7, 3) := dk_158 0 7 (dk_at dksX6_isAhead_1 10 rfl rfl)
theorem dX6_isAhead_36 : decode cX6_isAhead 36 = .ok (.iconst 1, 1) := dk_4 (dk_at dksX6_isAhead_1 13 rfl rfl)
theorem dX6_isAhead_37 : decode cX6_isAhead 37 = .ok (.goto 4, 3) := dk_167 0 4 (dk_at dksX6_isAhead_1 14 rfl rfl)
theorem dX6_isAhead_40 : decode cX6_isAhead 40 = .ok (.iconst 0, 1) := dk_3 (dk_at dksX6_isAhead_1 17 rfl rfl)
theorem dX6_isAhead_41 : decode cX6_isAhead 41 = .ok (.ireturn, 1) := dk_172 (dk_at dksX6_isAhead_1 18 rfl rfl)
theorem dX6_isAhead_42 : decode cX6_isAhead 42 = .ok (.aload_n 0, 1) := dk_42 (dk_at dksX6_isAhead_1 19 rfl rfl)
theorem dX6_isAhead_43 : decode cX6_isAhead 43 = .ok (.iload_n 1, 1) := dk_27 (dk_at dksX6_isAhead_1 20 rfl rfl)
theorem dX6_isAhead_44 : decode cX6_isAhead 44 = .ok (.iconst 4, 1) := dk_7 (dk_at dksX6_isAhead_1 21 rfl rfl)
theorem dX6_isAhead_45 : decode cX6_isAhead 45 = .ok (.invokevirtual 101, 3) := dk_182 0 101 (dk_at dksX6_isAhead_2 0 rfl rfl)
theorem dX6_isAhead_48 : decode cX6_isAhead 48 = .ok (.aload_n 0, 1) := dk_42 (dk_at dksX6_isAhead_2 3 rfl rfl)
theorem dX6_isAhead_49 : decode cX6_isAhead 49 = .ok (.iload_n 2, 1) := dk_28 (dk_at dksX6_isAhead_2 4 rfl rfl)
theorem dX6_isAhead_50 : decode cX6_isAhead 50 = .ok (.iconst 4, 1) := dk_7 (dk_at dksX6_isAhead_2 5 rfl rfl)
theorem dX6_isAhead_51 : decode cX6_isAhead 51 = .ok (.invokevirtual 101, 3) := dk_182 0 101 (dk_at dksX6_isAhead_2 6 rfl rfl)
theorem dX6_isAhead_54 : decode cX6_isAhead 54 = .ok (.if_icmp .eq 24, 3) := dk_159 0 24 (dk_at dksX6_isAhead_2 9 rfl rfl)
theorem dX6_isAhead_57 : decode cX6_isAhead 57 = .ok (.aload_n 0, 1) := dk_42 (dk_at dksX6_isAhead_2 12 rfl rfl)
theorem dX6_isAhead_58 : decode cX6_isAhead 58 = .ok (.iload_n 1, 1) := dk_27 (dk_at dksX6_isAhead_2 13 rfl rfl)
theorem dX6_isAhead_59 : decode cX6_isAhead 59 = .ok (.iconst 4, 1) := dk_7 (dk_at dksX6_isAhead_2 14 rfl rfl)
theorem dX6_isAhead_60 : decode cX6_isAhead 60 = .ok (.invokevirtual 101, 3) := dk_182 0 101 (dk_at dksX6_isAhead_2 15 rfl rfl)
theorem dX6_isAhead_63 : decode cX6_isAhead 63 = .ok (.aload_n 0, 1) := dk_42 (dk_at dksX6_isAhead_2 18 rfl rfl)
theorem dX6_isAhead_64 : decode cX6_isAhead 64 = .ok (.iload_n 2, 1) := dk_28 (dk_at dksX6_isAhead_2 19 rfl rfl)
theorem dX6_isAhead_65 : decode cX6_isAhead 65 = .ok (.iconst 4, 1) := dk_7 (dk_at dksX6_isAhead_2 20 rfl rfl)
theorem dX6_isAhead_66 : decode cX6_isAhead 66 = .ok (.invokevirtual 101, 3) := dk_182 0 101 (dk_at dksX6_isAhead_2 21 rfl rfl)
theorem dX6_isAhead_69 : decode cX6_isAhead 69 = .ok (.if_icmp .le 7, 3) := dk_164 0 7 (dk_at dksX6_isAhead_3 0 rfl rfl)
theorem dX6_isAhead_72 : decode cX6_isAhead 72 = .ok (.iconst 1, 1) := dk_4 (dk_at dksX6_isAhead_3 3 rfl rfl)
theorem dX6_isAhead_73 : decode cX6_isAhead 73 = .ok (.goto 4, 3) := dk_167 0 4 (dk_at dksX6_isAhead_3 4 rfl rfl)
theorem dX6_isAhead_76 : decode cX6_isAhead 76 = .ok (.iconst 0, 1) := dk_3 (dk_at dksX6_isAhead_3 7 rfl rfl)
theorem dX6_isAhead_77 : decode cX6_isAhead 77 = .ok (.ireturn, 1) := dk_172 (dk_at dksX6_isAhead_3 8 rfl rfl)
theorem dX6_isAhead_78 : decode cX6_isAhead 78 = .ok (.iload_n 1, 1) := dk_27 (dk_at dksX6_isAhead_3 9 rfl rfl)
theorem dX6_isAhead_79 : decode cX6_isAhead 79 = .ok (.iload_n 2, 1) := dk_28 (dk_at dksX6_isAhead_3 10 rfl rfl)
theorem dX6_isAhead_80 : decode cX6_isAhead 80 = .ok (.if_icmp .ge 7, 3) := dk_162 0 7 (dk_at dksX6_isAhead_3 11 rfl rfl)
theorem dX6_isAhead_83 : decode cX6_isAhead 83 = .ok (.iconst 1, 1) := dk_4 (dk_at dksX6_isAhead_3 14 rfl rfl)
theorem dX6_isAhead_84 : decode cX6_isAhead 84 = .ok (.goto 4, 3) := dk_167 0 4 (dk_at dksX6_isAhead_3 15 rfl rfl)
theorem dX6_isAhead_87 : decode cX6_isAhead 87 = .ok (.iconst 0, 1) := dk_3 (dk_at dksX6_isAhead_3 18 rfl rfl)
theorem dX6_isAhead_88 : decode cX6_isAhead 88 = .ok (.ireturn, 1) := dk_172 (dk_at dksX6_isAhead_3 19 rfl rfl)
abbrev cX6_annals : ByteArray := prog_17_method_81_code
def yX6_annals : MethodName := ⟨RX6, "annals", "(II)I"⟩
def dkwX6_annals_7 : List UInt8 := [28, 6, 160, 0, 8, 21, 4, 167, 0, 4, 29, 172]
abbrev dktX6_annals_7 : List UInt8 := dkwX6_annals_7 ++ []
def dkwX6_annals_6 : List UInt8 := [96, 62, 21, 7, 158, 0, 14, 21, 6, 21, 4, 164, 0, 7, 21, 6, 54, 4, 132, 5, 1, 167, 255, 131]
abbrev dktX6_annals_6 : List UInt8 := dkwX6_annals_6 ++ dktX6_annals_7
def dkwX6_annals_5 : List UInt8 := [96, 54, 7, 29, 28, 154, 0, 7, 4, 167, 0, 15, 28, 4, 160, 0, 8, 21, 6, 167, 0, 5, 21, 7]
abbrev dktX6_annals_5 : List UInt8 := dkwX6_annals_5 ++ dktX6_annals_6
def dkwX6_annals_4 : List UInt8 := [167, 0, 4, 4, 42, 180, 0, 16, 16, 8, 21, 5, 104, 8, 96, 46, 154, 0, 7, 3, 167, 0, 4, 4]
abbrev dktX6_annals_4 : List UInt8 := dkwX6_annals_4 ++ dktX6_annals_5
def dkwX6_annals_3 : List UInt8 := [104, 6, 96, 46, 54, 6, 42, 180, 0, 16, 16, 8, 21, 5, 104, 7, 96, 46, 154, 0, 7, 3]
abbrev dktX6_annals_3 : List UInt8 := dkwX6_annals_3 ++ dktX6_annals_4
def dkwX6_annals_2 : List UInt8 := [180, 0, 16, 16, 8, 21, 5, 104, 46, 27, 159, 0, 6, 167, 0, 99, 42, 180, 0, 16, 16, 8, 21, 5]
abbrev dktX6_annals_2 : List UInt8 := dkwX6_annals_2 ++ dktX6_annals_3
def dkwX6_annals_1 : List UInt8 := [154, 0, 5, 2, 172, 3, 62, 3, 54, 4, 3, 54, 5, 21, 5, 42, 180, 1, 8, 162, 0, 122, 42]
abbrev dktX6_annals_1 : List UInt8 := dkwX6_annals_1 ++ dktX6_annals_2
def dkwX6_annals_0 : List UInt8 := [42, 3, 181, 0, 90, 42, 27, 3, 17, 3, 231, 182, 0, 109, 153, 0, 13, 42, 28, 3, 6, 182, 0, 109]
abbrev dktX6_annals_0 : List UInt8 := dkwX6_annals_0 ++ dktX6_annals_1
theorem dksX6_annals_0 : cX6_annals.data.toList.drop 0 = dktX6_annals_0 := by decide +kernel
theorem dksX6_annals_1 : cX6_annals.data.toList.drop 24 = dktX6_annals_1 := dk_seg dksX6_annals_0 24 rfl rfl
theorem dksX6_annals_2 : cX6_annals.data.toList.drop 47 = dktX6_annals_2 := dk_seg dksX6_annals_1 23 rfl rfl
theorem dksX6_annals_3 : cX6_annals.data.toList.drop 71 = dktX6_annals_3 := dk_seg dksX6_annals_2 24 rfl rfl
theorem dksX6_annals_4 : cX6_annals.data.toList.drop 93 = dktX6_annals_4 := dk_seg dksX6_annals_3 22 rfl rfl
theorem dksX6_annals_5 : cX6_annals.data.toList.drop 117 = dktX6_annals_5 := dk_seg dksX6_annals_4 24 rfl rfl
theorem dksX6_annals_6 : cX6_annals.data.toList.drop 141 = dktX6_annals_6 := dk_seg dksX6_annals_5 24 rfl rfl
theorem dksX6_annals_7 : cX6_annals.data.toList.drop 165 = dktX6_annals_7 := dk_seg dksX6_annals_6 24 rfl rfl
theorem dX6_annals_0 : decode cX6_annals 0 = .ok (.aload_n 0, 1) := dk_42 (dk_at dksX6_annals_0 0 rfl rfl)
theorem dX6_annals_1 : decode cX6_annals 1 = .ok (.iconst 0, 1) := dk_3 (dk_at dksX6_annals_0 1 rfl rfl)
theorem dX6_annals_2 : decode cX6_annals 2 = .ok (.putfield 90, 3) := dk_181 0 90 (dk_at dksX6_annals_0 2 rfl rfl)
theorem dX6_annals_5 : decode cX6_annals 5 = .ok (.aload_n 0, 1) := dk_42 (dk_at dksX6_annals_0 5 rfl rfl)
theorem dX6_annals_6 : decode cX6_annals 6 = .ok (.iload_n 1, 1) := dk_27 (dk_at dksX6_annals_0 6 rfl rfl)
theorem dX6_annals_7 : decode cX6_annals 7 = .ok (.iconst 0, 1) := dk_3 (dk_at dksX6_annals_0 7 rfl rfl)
theorem dX6_annals_8 : decode cX6_annals 8 = .ok (.sipush 999, 3) := dk_17 3 231 (dk_at dksX6_annals_0 8 rfl rfl)
theorem dX6_annals_11 : decode cX6_annals 11 = .ok (.invokevirtual 109, 3) := dk_182 0 109 (dk_at dksX6_annals_0 11 rfl rfl)
theorem dX6_annals_14 : decode cX6_annals 14 = .ok (.ifCond .eq 13, 3) := dk_153 0 13 (dk_at dksX6_annals_0 14 rfl rfl)
theorem dX6_annals_17 : decode cX6_annals 17 = .ok (.aload_n 0, 1) := dk_42 (dk_at dksX6_annals_0 17 rfl rfl)
theorem dX6_annals_18 : decode cX6_annals 18 = .ok (.iload_n 2, 1) := dk_28 (dk_at dksX6_annals_0 18 rfl rfl)
theorem dX6_annals_19 : decode cX6_annals 19 = .ok (.iconst 0, 1) := dk_3 (dk_at dksX6_annals_0 19 rfl rfl)
theorem dX6_annals_20 : decode cX6_annals 20 = .ok (.iconst 3, 1) := dk_6 (dk_at dksX6_annals_0 20 rfl rfl)
theorem dX6_annals_21 : decode cX6_annals 21 = .ok (.invokevirtual 109, 3) := dk_182 0 109 (dk_at dksX6_annals_0 21 rfl rfl)
theorem dX6_annals_24 : decode cX6_annals 24 = .ok (.ifCond .ne 5, 3) := dk_154 0 5 (dk_at dksX6_annals_1 0 rfl rfl)
theorem dX6_annals_27 : decode cX6_annals 27 = .ok (.iconst (-1), 1) := dk_2 (dk_at dksX6_annals_1 3 rfl rfl)
theorem dX6_annals_28 : decode cX6_annals 28 = .ok (.ireturn, 1) := dk_172 (dk_at dksX6_annals_1 4 rfl rfl)
theorem dX6_annals_29 : decode cX6_annals 29 = .ok (.iconst 0, 1) := dk_3 (dk_at dksX6_annals_1 5 rfl rfl)
theorem dX6_annals_30 : decode cX6_annals 30 = .ok (.istore_n 3, 1) := dk_62 (dk_at dksX6_annals_1 6 rfl rfl)
theorem dX6_annals_31 : decode cX6_annals 31 = .ok (.iconst 0, 1) := dk_3 (dk_at dksX6_annals_1 7 rfl rfl)
theorem dX6_annals_32 : decode cX6_annals 32 = .ok (.istore 4, 2) := dk_54 4 (dk_at dksX6_annals_1 8 rfl rfl)
theorem dX6_annals_34 : decode cX6_annals 34 = .ok (.iconst 0, 1) := dk_3 (dk_at dksX6_annals_1 10 rfl rfl)
theorem dX6_annals_35 : decode cX6_annals 35 = .ok (.istore 5, 2) := dk_54 5 (dk_at dksX6_annals_1 11 rfl rfl)
theorem dX6_annals_37 : decode cX6_annals 37 = .ok (.iload 5, 2) := dk_21 5 (dk_at dksX6_annals_1 13 rfl rfl)
theorem dX6_annals_39 : decode cX6_annals 39 = .ok (.aload_n 0, 1) := dk_42 (dk_at dksX6_annals_1 15 rfl rfl)
theorem dX6_annals_40 : decode cX6_annals 40 = .ok (.getfield 264, 3) := dk_180 1 8 (dk_at dksX6_annals_1 16 rfl rfl)
theorem dX6_annals_43 : decode cX6_annals 43 = .ok (.if_icmp .ge 122, 3) := dk_162 0 122 (dk_at dksX6_annals_1 19 rfl rfl)
theorem dX6_annals_46 : decode cX6_annals 46 = .ok (.aload_n 0, 1) := dk_42 (dk_at dksX6_annals_1 22 rfl rfl)
theorem dX6_annals_47 : decode cX6_annals 47 = .ok (.getfield 16, 3) := dk_180 0 16 (dk_at dksX6_annals_2 0 rfl rfl)
theorem dX6_annals_50 : decode cX6_annals 50 = .ok (.bipush 8, 2) := dk_16 8 (dk_at dksX6_annals_2 3 rfl rfl)
theorem dX6_annals_52 : decode cX6_annals 52 = .ok (.iload 5, 2) := dk_21 5 (dk_at dksX6_annals_2 5 rfl rfl)
theorem dX6_annals_54 : decode cX6_annals 54 = .ok (.imul, 1) := dk_104 (dk_at dksX6_annals_2 7 rfl rfl)
theorem dX6_annals_55 : decode cX6_annals 55 = .ok (.iaload, 1) := dk_46 (dk_at dksX6_annals_2 8 rfl rfl)
theorem dX6_annals_56 : decode cX6_annals 56 = .ok (.iload_n 1, 1) := dk_27 (dk_at dksX6_annals_2 9 rfl rfl)
theorem dX6_annals_57 : decode cX6_annals 57 = .ok (.if_icmp .eq 6, 3) := dk_159 0 6 (dk_at dksX6_annals_2 10 rfl rfl)
theorem dX6_annals_60 : decode cX6_annals 60 = .ok (.goto 99, 3) := dk_167 0 99 (dk_at dksX6_annals_2 13 rfl rfl)
theorem dX6_annals_63 : decode cX6_annals 63 = .ok (.aload_n 0, 1) := dk_42 (dk_at dksX6_annals_2 16 rfl rfl)
theorem dX6_annals_64 : decode cX6_annals 64 = .ok (.getfield 16, 3) := dk_180 0 16 (dk_at dksX6_annals_2 17 rfl rfl)
theorem dX6_annals_67 : decode cX6_annals 67 = .ok (.bipush 8, 2) := dk_16 8 (dk_at dksX6_annals_2 20 rfl rfl)
theorem dX6_annals_69 : decode cX6_annals 69 = .ok (.iload 5, 2) := dk_21 5 (dk_at dksX6_annals_2 22 rfl rfl)
theorem dX6_annals_71 : decode cX6_annals 71 = .ok (.imul, 1) := dk_104 (dk_at dksX6_annals_3 0 rfl rfl)
theorem dX6_annals_72 : decode cX6_annals 72 = .ok (.iconst 3, 1) := dk_6 (dk_at dksX6_annals_3 1 rfl rfl)
theorem dX6_annals_73 : decode cX6_annals 73 = .ok (.iadd, 1) := dk_96 (dk_at dksX6_annals_3 2 rfl rfl)
theorem dX6_annals_74 : decode cX6_annals 74 = .ok (.iaload, 1) := dk_46 (dk_at dksX6_annals_3 3 rfl rfl)
theorem dX6_annals_75 : decode cX6_annals 75 = .ok (.istore 6, 2) := dk_54 6 (dk_at dksX6_annals_3 4 rfl rfl)
theorem dX6_annals_77 : decode cX6_annals 77 = .ok (.aload_n 0, 1) := dk_42 (dk_at dksX6_annals_3 6 rfl rfl)
theorem dX6_annals_78 : decode cX6_annals 78 = .ok (.getfield 16, 3) := dk_180 0 16 (dk_at dksX6_annals_3 7 rfl rfl)
theorem dX6_annals_81 : decode cX6_annals 81 = .ok (.bipush 8, 2) := dk_16 8 (dk_at dksX6_annals_3 10 rfl rfl)
theorem dX6_annals_83 : decode cX6_annals 83 = .ok (.iload 5, 2) := dk_21 5 (dk_at dksX6_annals_3 12 rfl rfl)
theorem dX6_annals_85 : decode cX6_annals 85 = .ok (.imul, 1) := dk_104 (dk_at dksX6_annals_3 14 rfl rfl)
theorem dX6_annals_86 : decode cX6_annals 86 = .ok (.iconst 4, 1) := dk_7 (dk_at dksX6_annals_3 15 rfl rfl)
theorem dX6_annals_87 : decode cX6_annals 87 = .ok (.iadd, 1) := dk_96 (dk_at dksX6_annals_3 16 rfl rfl)
theorem dX6_annals_88 : decode cX6_annals 88 = .ok (.iaload, 1) := dk_46 (dk_at dksX6_annals_3 17 rfl rfl)
theorem dX6_annals_89 : decode cX6_annals 89 = .ok (.ifCond .ne 7, 3) := dk_154 0 7 (dk_at dksX6_annals_3 18 rfl rfl)
theorem dX6_annals_92 : decode cX6_annals 92 = .ok (.iconst 0, 1) := dk_3 (dk_at dksX6_annals_3 21 rfl rfl)
theorem dX6_annals_93 : decode cX6_annals 93 = .ok (.goto 4, 3) := dk_167 0 4 (dk_at dksX6_annals_4 0 rfl rfl)
theorem dX6_annals_96 : decode cX6_annals 96 = .ok (.iconst 1, 1) := dk_4 (dk_at dksX6_annals_4 3 rfl rfl)
theorem dX6_annals_97 : decode cX6_annals 97 = .ok (.aload_n 0, 1) := dk_42 (dk_at dksX6_annals_4 4 rfl rfl)
theorem dX6_annals_98 : decode cX6_annals 98 = .ok (.getfield 16, 3) := dk_180 0 16 (dk_at dksX6_annals_4 5 rfl rfl)
theorem dX6_annals_101 : decode cX6_annals 101 = .ok (.bipush 8, 2) := dk_16 8 (dk_at dksX6_annals_4 8 rfl rfl)
theorem dX6_annals_103 : decode cX6_annals 103 = .ok (.iload 5, 2) := dk_21 5 (dk_at dksX6_annals_4 10 rfl rfl)
theorem dX6_annals_105 : decode cX6_annals 105 = .ok (.imul, 1) := dk_104 (dk_at dksX6_annals_4 12 rfl rfl)
theorem dX6_annals_106 : decode cX6_annals 106 = .ok (.iconst 5, 1) := dk_8 (dk_at dksX6_annals_4 13 rfl rfl)
theorem dX6_annals_107 : decode cX6_annals 107 = .ok (.iadd, 1) := dk_96 (dk_at dksX6_annals_4 14 rfl rfl)
theorem dX6_annals_108 : decode cX6_annals 108 = .ok (.iaload, 1) := dk_46 (dk_at dksX6_annals_4 15 rfl rfl)
theorem dX6_annals_109 : decode cX6_annals 109 = .ok (.ifCond .ne 7, 3) := dk_154 0 7 (dk_at dksX6_annals_4 16 rfl rfl)
theorem dX6_annals_112 : decode cX6_annals 112 = .ok (.iconst 0, 1) := dk_3 (dk_at dksX6_annals_4 19 rfl rfl)
theorem dX6_annals_113 : decode cX6_annals 113 = .ok (.goto 4, 3) := dk_167 0 4 (dk_at dksX6_annals_4 20 rfl rfl)
theorem dX6_annals_116 : decode cX6_annals 116 = .ok (.iconst 1, 1) := dk_4 (dk_at dksX6_annals_4 23 rfl rfl)
theorem dX6_annals_117 : decode cX6_annals 117 = .ok (.iadd, 1) := dk_96 (dk_at dksX6_annals_5 0 rfl rfl)
theorem dX6_annals_118 : decode cX6_annals 118 = .ok (.istore 7, 2) := dk_54 7 (dk_at dksX6_annals_5 1 rfl rfl)
theorem dX6_annals_120 : decode cX6_annals 120 = .ok (.iload_n 3, 1) := dk_29 (dk_at dksX6_annals_5 3 rfl rfl)
theorem dX6_annals_121 : decode cX6_annals 121 = .ok (.iload_n 2, 1) := dk_28 (dk_at dksX6_annals_5 4 rfl rfl)
theorem dX6_annals_122 : decode cX6_annals 122 = .ok (.ifCond .ne 7, 3) := dk_154 0 7 (dk_at dksX6_annals_5 5 rfl rfl)
theorem dX6_annals_125 : decode cX6_annals 125 = .ok (.iconst 1, 1) := dk_4 (dk_at dksX6_annals_5 8 rfl rfl)
theorem dX6_annals_126 : decode cX6_annals 126 = .ok (.goto 15, 3) := dk_167 0 15 (dk_at dksX6_annals_5 9 rfl rfl)
theorem dX6_annals_129 : decode cX6_annals 129 = .ok (.iload_n 2, 1) := dk_28 (dk_at dksX6_annals_5 12 rfl rfl)
theorem dX6_annals_130 : decode cX6_annals 130 = .ok (.iconst 1, 1) := dk_4 (dk_at dksX6_annals_5 13 rfl rfl)
theorem dX6_annals_131 : decode cX6_annals 131 = .ok (.if_icmp .ne 8, 3) := dk_160 0 8 (dk_at dksX6_annals_5 14 rfl rfl)
theorem dX6_annals_134 : decode cX6_annals 134 = .ok (.iload 6, 2) := dk_21 6 (dk_at dksX6_annals_5 17 rfl rfl)
theorem dX6_annals_136 : decode cX6_annals 136 = .ok (.goto 5, 3) := dk_167 0 5 (dk_at dksX6_annals_5 19 rfl rfl)
theorem dX6_annals_139 : decode cX6_annals 139 = .ok (.iload 7, 2) := dk_21 7 (dk_at dksX6_annals_5 22 rfl rfl)
theorem dX6_annals_141 : decode cX6_annals 141 = .ok (.iadd, 1) := dk_96 (dk_at dksX6_annals_6 0 rfl rfl)
theorem dX6_annals_142 : decode cX6_annals 142 = .ok (.istore_n 3, 1) := dk_62 (dk_at dksX6_annals_6 1 rfl rfl)
theorem dX6_annals_143 : decode cX6_annals 143 = .ok (.iload 7, 2) := dk_21 7 (dk_at dksX6_annals_6 2 rfl rfl)
theorem dX6_annals_145 : decode cX6_annals 145 = .ok (.ifCond .le 14, 3) := dk_158 0 14 (dk_at dksX6_annals_6 4 rfl rfl)
theorem dX6_annals_148 : decode cX6_annals 148 = .ok (.iload 6, 2) := dk_21 6 (dk_at dksX6_annals_6 7 rfl rfl)
theorem dX6_annals_150 : decode cX6_annals 150 = .ok (.iload 4, 2) := dk_21 4 (dk_at dksX6_annals_6 9 rfl rfl)
theorem dX6_annals_152 : decode cX6_annals 152 = .ok (.if_icmp .le 7, 3) := dk_164 0 7 (dk_at dksX6_annals_6 11 rfl rfl)
theorem dX6_annals_155 : decode cX6_annals 155 = .ok (.iload 6, 2) := dk_21 6 (dk_at dksX6_annals_6 14 rfl rfl)
theorem dX6_annals_157 : decode cX6_annals 157 = .ok (.istore 4, 2) := dk_54 4 (dk_at dksX6_annals_6 16 rfl rfl)
theorem dX6_annals_159 : decode cX6_annals 159 = .ok (.iinc 5 1, 3) := dk_132 5 1 (dk_at dksX6_annals_6 18 rfl rfl)
theorem dX6_annals_162 : decode cX6_annals 162 = .ok (.goto (-125), 3) := dk_167 255 131 (dk_at dksX6_annals_6 21 rfl rfl)
theorem dX6_annals_165 : decode cX6_annals 165 = .ok (.iload_n 2, 1) := dk_28 (dk_at dksX6_annals_7 0 rfl rfl)
theorem dX6_annals_166 : decode cX6_annals 166 = .ok (.iconst 3, 1) := dk_6 (dk_at dksX6_annals_7 1 rfl rfl)
theorem dX6_annals_167 : decode cX6_annals 167 = .ok (.if_icmp .ne 8, 3) := dk_160 0 8 (dk_at dksX6_annals_7 2 rfl rfl)
theorem dX6_annals_170 : decode cX6_annals 170 = .ok (.iload 4, 2) := dk_21 4 (dk_at dksX6_annals_7 5 rfl rfl)
theorem dX6_annals_172 : decode cX6_annals 172 = .ok (.goto 4, 3) := dk_167 0 4 (dk_at dksX6_annals_7 7 rfl rfl)
theorem dX6_annals_175 : decode cX6_annals 175 = .ok (.iload_n 3, 1) := dk_29 (dk_at dksX6_annals_7 10 rfl rfl)
theorem dX6_annals_176 : decode cX6_annals 176 = .ok (.ireturn, 1) := dk_172 (dk_at dksX6_annals_7 11 rfl rfl)
abbrev cX6_rests : ByteArray := prog_17_method_84_code
def yX6_rests : MethodName := ⟨RX6, "rests", "(III)I"⟩
def dkwX6_rests_4 : List UInt8 := [132, 5, 1, 167, 255, 203, 21, 4, 172]
abbrev dktX6_rests_4 : List UInt8 := dkwX6_rests_4 ++ []
def dkwX6_rests_3 : List UInt8 := [6, 112, 21, 5, 6, 108, 29, 182, 1, 126, 153, 0, 12, 21, 4, 4, 21, 5, 120, 128, 54, 4]
abbrev dktX6_rests_3 : List UInt8 := dkwX6_rests_3 ++ dktX6_rests_4
def dkwX6_rests_2 : List UInt8 := [162, 0, 52, 42, 27, 21, 5, 6, 108, 21, 5, 6, 112, 29, 182, 1, 126, 153, 0, 29, 42, 28, 21, 5]
abbrev dktX6_rests_2 : List UInt8 := dkwX6_rests_2 ++ dktX6_rests_3
def dkwX6_rests_1 : List UInt8 := [159, 0, 11, 42, 29, 182, 0, 240, 154, 0, 5, 2, 172, 3, 54, 4, 3, 54, 5, 21, 5, 16, 9]
abbrev dktX6_rests_1 : List UInt8 := dkwX6_rests_1 ++ dktX6_rests_2
def dkwX6_rests_0 : List UInt8 := [42, 3, 181, 0, 90, 42, 27, 182, 0, 113, 153, 0, 24, 42, 28, 182, 0, 113, 153, 0, 16, 27, 28]
abbrev dktX6_rests_0 : List UInt8 := dkwX6_rests_0 ++ dktX6_rests_1
theorem dksX6_rests_0 : cX6_rests.data.toList.drop 0 = dktX6_rests_0 := by decide +kernel
theorem dksX6_rests_1 : cX6_rests.data.toList.drop 23 = dktX6_rests_1 := dk_seg dksX6_rests_0 23 rfl rfl
theorem dksX6_rests_2 : cX6_rests.data.toList.drop 46 = dktX6_rests_2 := dk_seg dksX6_rests_1 23 rfl rfl
theorem dksX6_rests_3 : cX6_rests.data.toList.drop 70 = dktX6_rests_3 := dk_seg dksX6_rests_2 24 rfl rfl
theorem dksX6_rests_4 : cX6_rests.data.toList.drop 92 = dktX6_rests_4 := dk_seg dksX6_rests_3 22 rfl rfl
theorem dX6_rests_0 : decode cX6_rests 0 = .ok (.aload_n 0, 1) := dk_42 (dk_at dksX6_rests_0 0 rfl rfl)
theorem dX6_rests_1 : decode cX6_rests 1 = .ok (.iconst 0, 1) := dk_3 (dk_at dksX6_rests_0 1 rfl rfl)
theorem dX6_rests_2 : decode cX6_rests 2 = .ok (.putfield 90, 3) := dk_181 0 90 (dk_at dksX6_rests_0 2 rfl rfl)
theorem dX6_rests_5 : decode cX6_rests 5 = .ok (.aload_n 0, 1) := dk_42 (dk_at dksX6_rests_0 5 rfl rfl)
theorem dX6_rests_6 : decode cX6_rests 6 = .ok (.iload_n 1, 1) := dk_27 (dk_at dksX6_rests_0 6 rfl rfl)
theorem dX6_rests_7 : decode cX6_rests 7 = .ok (.invokevirtual 113, 3) := dk_182 0 113 (dk_at dksX6_rests_0 7 rfl rfl)
theorem dX6_rests_10 : decode cX6_rests 10 = .ok (.ifCond .eq 24, 3) := dk_153 0 24 (dk_at dksX6_rests_0 10 rfl rfl)
theorem dX6_rests_13 : decode cX6_rests 13 = .ok (.aload_n 0, 1) := dk_42 (dk_at dksX6_rests_0 13 rfl rfl)
theorem dX6_rests_14 : decode cX6_rests 14 = .ok (.iload_n 2, 1) := dk_28 (dk_at dksX6_rests_0 14 rfl rfl)
theorem dX6_rests_15 : decode cX6_rests 15 = .ok (.invokevirtual 113, 3) := dk_182 0 113 (dk_at dksX6_rests_0 15 rfl rfl)
theorem dX6_rests_18 : decode cX6_rests 18 = .ok (.ifCond .eq 16, 3) := dk_153 0 16 (dk_at dksX6_rests_0 18 rfl rfl)
theorem dX6_rests_21 : decode cX6_rests 21 = .ok (.iload_n 1, 1) := dk_27 (dk_at dksX6_rests_0 21 rfl rfl)
theorem dX6_rests_22 : decode cX6_rests 22 = .ok (.iload_n 2, 1) := dk_28 (dk_at dksX6_rests_0 22 rfl rfl)
theorem dX6_rests_23 : decode cX6_rests 23 = .ok (.if_icmp .eq 11, 3) := dk_159 0 11 (dk_at dksX6_rests_1 0 rfl rfl)
theorem dX6_rests_26 : decode cX6_rests 26 = .ok (.aload_n 0, 1) := dk_42 (dk_at dksX6_rests_1 3 rfl rfl)
theorem dX6_rests_27 : decode cX6_rests 27 = .ok (.iload_n 3, 1) := dk_29 (dk_at dksX6_rests_1 4 rfl rfl)
theorem dX6_rests_28 : decode cX6_rests 28 = .ok (.invokevirtual 240, 3) := dk_182 0 240 (dk_at dksX6_rests_1 5 rfl rfl)
theorem dX6_rests_31 : decode cX6_rests 31 = .ok (.ifCond .ne 5, 3) := dk_154 0 5 (dk_at dksX6_rests_1 8 rfl rfl)
theorem dX6_rests_34 : decode cX6_rests 34 = .ok (.iconst (-1), 1) := dk_2 (dk_at dksX6_rests_1 11 rfl rfl)
theorem dX6_rests_35 : decode cX6_rests 35 = .ok (.ireturn, 1) := dk_172 (dk_at dksX6_rests_1 12 rfl rfl)
theorem dX6_rests_36 : decode cX6_rests 36 = .ok (.iconst 0, 1) := dk_3 (dk_at dksX6_rests_1 13 rfl rfl)
theorem dX6_rests_37 : decode cX6_rests 37 = .ok (.istore 4, 2) := dk_54 4 (dk_at dksX6_rests_1 14 rfl rfl)
theorem dX6_rests_39 : decode cX6_rests 39 = .ok (.iconst 0, 1) := dk_3 (dk_at dksX6_rests_1 16 rfl rfl)
theorem dX6_rests_40 : decode cX6_rests 40 = .ok (.istore 5, 2) := dk_54 5 (dk_at dksX6_rests_1 17 rfl rfl)
theorem dX6_rests_42 : decode cX6_rests 42 = .ok (.iload 5, 2) := dk_21 5 (dk_at dksX6_rests_1 19 rfl rfl)
theorem dX6_rests_44 : decode cX6_rests 44 = .ok (.bipush 9, 2) := dk_16 9 (dk_at dksX6_rests_1 21 rfl rfl)
theorem dX6_rests_46 : decode cX6_rests 46 = .ok (.if_icmp .ge 52, 3) := dk_162 0 52 (dk_at dksX6_rests_2 0 rfl rfl)
theorem dX6_rests_49 : decode cX6_rests 49 = .ok (.aload_n 0, 1) := dk_42 (dk_at dksX6_rests_2 3 rfl rfl)
theorem dX6_rests_50 : decode cX6_rests 50 = .ok (.iload_n 1, 1) := dk_27 (dk_at dksX6_rests_2 4 rfl rfl)
theorem dX6_rests_51 : decode cX6_rests 51 = .ok (.iload 5, 2) := dk_21 5 (dk_at dksX6_rests_2 5 rfl rfl)
theorem dX6_rests_53 : decode cX6_rests 53 = .ok (.iconst 3, 1) := dk_6 (dk_at dksX6_rests_2 7 rfl rfl)
theorem dX6_rests_54 : decode cX6_rests 54 = .ok (.idiv, 1) := dk_108 (dk_at dksX6_rests_2 8 rfl rfl)
theorem dX6_rests_55 : decode cX6_rests 55 = .ok (.iload 5, 2) := dk_21 5 (dk_at dksX6_rests_2 9 rfl rfl)
theorem dX6_rests_57 : decode cX6_rests 57 = .ok (.iconst 3, 1) := dk_6 (dk_at dksX6_rests_2 11 rfl rfl)
theorem dX6_rests_58 : decode cX6_rests 58 = .ok (.irem, 1) := dk_112 (dk_at dksX6_rests_2 12 rfl rfl)
theorem dX6_rests_59 : decode cX6_rests 59 = .ok (.iload_n 3, 1) := dk_29 (dk_at dksX6_rests_2 13 rfl rfl)
theorem dX6_rests_60 : decode cX6_rests 60 = .ok (.invokevirtual 382, 3) := dk_182 1 126 (dk_at dksX6_rests_2 14 rfl rfl)
theorem dX6_rests_63 : decode cX6_rests 63 = .ok (.ifCond .eq 29, 3) := dk_153 0 29 (dk_at dksX6_rests_2 17 rfl rfl)
theorem dX6_rests_66 : decode cX6_rests 66 = .ok (.aload_n 0, 1) := dk_42 (dk_at dksX6_rests_2 20 rfl rfl)
theorem dX6_rests_67 : decode cX6_rests 67 = .ok (.iload_n 2, 1) := dk_28 (dk_at dksX6_rests_2 21 rfl rfl)
theorem dX6_rests_68 : decode cX6_rests 68 = .ok (.iload 5, 2) := dk_21 5 (dk_at dksX6_rests_2 22 rfl rfl)
theorem dX6_rests_70 : decode cX6_rests 70 = .ok (.iconst 3, 1) := dk_6 (dk_at dksX6_rests_3 0 rfl rfl)
theorem dX6_rests_71 : decode cX6_rests 71 = .ok (.irem, 1) := dk_112 (dk_at dksX6_rests_3 1 rfl rfl)
theorem dX6_rests_72 : decode cX6_rests 72 = .ok (.iload 5, 2) := dk_21 5 (dk_at dksX6_rests_3 2 rfl rfl)
theorem dX6_rests_74 : decode cX6_rests 74 = .ok (.iconst 3, 1) := dk_6 (dk_at dksX6_rests_3 4 rfl rfl)
theorem dX6_rests_75 : decode cX6_rests 75 = .ok (.idiv, 1) := dk_108 (dk_at dksX6_rests_3 5 rfl rfl)
theorem dX6_rests_76 : decode cX6_rests 76 = .ok (.iload_n 3, 1) := dk_29 (dk_at dksX6_rests_3 6 rfl rfl)
theorem dX6_rests_77 : decode cX6_rests 77 = .ok (.invokevirtual 382, 3) := dk_182 1 126 (dk_at dksX6_rests_3 7 rfl rfl)
theorem dX6_rests_80 : decode cX6_rests 80 = .ok (.ifCond .eq 12, 3) := dk_153 0 12 (dk_at dksX6_rests_3 10 rfl rfl)
theorem dX6_rests_83 : decode cX6_rests 83 = .ok (.iload 4, 2) := dk_21 4 (dk_at dksX6_rests_3 13 rfl rfl)
theorem dX6_rests_85 : decode cX6_rests 85 = .ok (.iconst 1, 1) := dk_4 (dk_at dksX6_rests_3 15 rfl rfl)
theorem dX6_rests_86 : decode cX6_rests 86 = .ok (.iload 5, 2) := dk_21 5 (dk_at dksX6_rests_3 16 rfl rfl)
theorem dX6_rests_88 : decode cX6_rests 88 = .ok (.ishl, 1) := dk_120 (dk_at dksX6_rests_3 18 rfl rfl)
theorem dX6_rests_89 : decode cX6_rests 89 = .ok (.ior, 1) := dk_128 (dk_at dksX6_rests_3 19 rfl rfl)
theorem dX6_rests_90 : decode cX6_rests 90 = .ok (.istore 4, 2) := dk_54 4 (dk_at dksX6_rests_3 20 rfl rfl)
theorem dX6_rests_92 : decode cX6_rests 92 = .ok (.iinc 5 1, 3) := dk_132 5 1 (dk_at dksX6_rests_4 0 rfl rfl)
theorem dX6_rests_95 : decode cX6_rests 95 = .ok (.goto (-53), 3) := dk_167 255 203 (dk_at dksX6_rests_4 3 rfl rfl)
theorem dX6_rests_98 : decode cX6_rests 98 = .ok (.iload 4, 2) := dk_21 4 (dk_at dksX6_rests_4 6 rfl rfl)
theorem dX6_rests_100 : decode cX6_rests 100 = .ok (.ireturn, 1) := dk_172 (dk_at dksX6_rests_4 8 rfl rfl)
abbrev cX6_isReply : ByteArray := prog_17_method_83_code
def yX6_isReply : MethodName := ⟨RX6, "isReply", "(IIII)Z"⟩
def dkwX6_isReply_1 : List UInt8 := [29, 21, 4, 182, 1, 122, 21, 5, 164, 0, 5, 3, 172, 132, 6, 1, 167, 255, 230, 4, 172]
abbrev dktX6_isReply_1 : List UInt8 := dkwX6_isReply_1 ++ []
def dkwX6_isReply_0 : List UInt8 := [42, 27, 28, 29, 21, 4, 182, 1, 122, 54, 5, 3, 54, 6, 21, 6, 6, 162, 0, 26, 42, 27, 21, 6]
abbrev dktX6_isReply_0 : List UInt8 := dkwX6_isReply_0 ++ dktX6_isReply_1
theorem dksX6_isReply_0 : cX6_isReply.data.toList.drop 0 = dktX6_isReply_0 := by decide +kernel
theorem dksX6_isReply_1 : cX6_isReply.data.toList.drop 24 = dktX6_isReply_1 := dk_seg dksX6_isReply_0 24 rfl rfl
theorem dX6_isReply_0 : decode cX6_isReply 0 = .ok (.aload_n 0, 1) := dk_42 (dk_at dksX6_isReply_0 0 rfl rfl)
theorem dX6_isReply_1 : decode cX6_isReply 1 = .ok (.iload_n 1, 1) := dk_27 (dk_at dksX6_isReply_0 1 rfl rfl)
theorem dX6_isReply_2 : decode cX6_isReply 2 = .ok (.iload_n 2, 1) := dk_28 (dk_at dksX6_isReply_0 2 rfl rfl)
theorem dX6_isReply_3 : decode cX6_isReply 3 = .ok (.iload_n 3, 1) := dk_29 (dk_at dksX6_isReply_0 3 rfl rfl)
theorem dX6_isReply_4 : decode cX6_isReply 4 = .ok (.iload 4, 2) := dk_21 4 (dk_at dksX6_isReply_0 4 rfl rfl)
theorem dX6_isReply_6 : decode cX6_isReply 6 = .ok (.invokevirtual 378, 3) := dk_182 1 122 (dk_at dksX6_isReply_0 6 rfl rfl)
theorem dX6_isReply_9 : decode cX6_isReply 9 = .ok (.istore 5, 2) := dk_54 5 (dk_at dksX6_isReply_0 9 rfl rfl)
theorem dX6_isReply_11 : decode cX6_isReply 11 = .ok (.iconst 0, 1) := dk_3 (dk_at dksX6_isReply_0 11 rfl rfl)
theorem dX6_isReply_12 : decode cX6_isReply 12 = .ok (.istore 6, 2) := dk_54 6 (dk_at dksX6_isReply_0 12 rfl rfl)
theorem dX6_isReply_14 : decode cX6_isReply 14 = .ok (.iload 6, 2) := dk_21 6 (dk_at dksX6_isReply_0 14 rfl rfl)
theorem dX6_isReply_16 : decode cX6_isReply 16 = .ok (.iconst 3, 1) := dk_6 (dk_at dksX6_isReply_0 16 rfl rfl)
theorem dX6_isReply_17 : decode cX6_isReply 17 = .ok (.if_icmp .ge 26, 3) := dk_162 0 26 (dk_at dksX6_isReply_0 17 rfl rfl)
theorem dX6_isReply_20 : decode cX6_isReply 20 = .ok (.aload_n 0, 1) := dk_42 (dk_at dksX6_isReply_0 20 rfl rfl)
theorem dX6_isReply_21 : decode cX6_isReply 21 = .ok (.iload_n 1, 1) := dk_27 (dk_at dksX6_isReply_0 21 rfl rfl)
theorem dX6_isReply_22 : decode cX6_isReply 22 = .ok (.iload 6, 2) := dk_21 6 (dk_at dksX6_isReply_0 22 rfl rfl)
theorem dX6_isReply_24 : decode cX6_isReply 24 = .ok (.iload_n 3, 1) := dk_29 (dk_at dksX6_isReply_1 0 rfl rfl)
theorem dX6_isReply_25 : decode cX6_isReply 25 = .ok (.iload 4, 2) := dk_21 4 (dk_at dksX6_isReply_1 1 rfl rfl)
theorem dX6_isReply_27 : decode cX6_isReply 27 = .ok (.invokevirtual 378, 3) := dk_182 1 122 (dk_at dksX6_isReply_1 3 rfl rfl)
theorem dX6_isReply_30 : decode cX6_isReply 30 = .ok (.iload 5, 2) := dk_21 5 (dk_at dksX6_isReply_1 6 rfl rfl)
theorem dX6_isReply_32 : decode cX6_isReply 32 = .ok (.if_icmp .le 5, 3) := dk_164 0 5 (dk_at dksX6_isReply_1 8 rfl rfl)
theorem dX6_isReply_35 : decode cX6_isReply 35 = .ok (.iconst 0, 1) := dk_3 (dk_at dksX6_isReply_1 11 rfl rfl)
theorem dX6_isReply_36 : decode cX6_isReply 36 = .ok (.ireturn, 1) := dk_172 (dk_at dksX6_isReply_1 12 rfl rfl)
theorem dX6_isReply_37 : decode cX6_isReply 37 = .ok (.iinc 6 1, 3) := dk_132 6 1 (dk_at dksX6_isReply_1 13 rfl rfl)
theorem dX6_isReply_40 : decode cX6_isReply 40 = .ok (.goto (-26), 3) := dk_167 255 230 (dk_at dksX6_isReply_1 16 rfl rfl)
theorem dX6_isReply_43 : decode cX6_isReply 43 = .ok (.iconst 1, 1) := dk_4 (dk_at dksX6_isReply_1 19 rfl rfl)
theorem dX6_isReply_44 : decode cX6_isReply 44 = .ok (.ireturn, 1) := dk_172 (dk_at dksX6_isReply_1 20 rfl rfl)
abbrev cX6_coupleOf : ByteArray := prog_17_method_82_code
def yX6_coupleOf : MethodName := ⟨RX6, "coupleOf", "(IIII)I"⟩
def dkwX6_coupleOf_3 : List UInt8 := [21, 4, 104, 100, 167, 0, 5, 21, 5, 172]
abbrev dktX6_coupleOf_3 : List UInt8 := dkwX6_coupleOf_3 ++ []
def dkwX6_coupleOf_2 : List UInt8 := [27, 21, 4, 182, 0, 232, 154, 0, 25, 21, 5, 42, 180, 0, 13, 8, 46, 42, 180, 0, 13, 7, 46, 104]
abbrev dktX6_coupleOf_2 : List UInt8 := dkwX6_coupleOf_2 ++ dktX6_coupleOf_3
def dkwX6_coupleOf_1 : List UInt8 := [29, 5, 160, 0, 7, 4, 167, 0, 4, 3, 21, 4, 182, 1, 11, 104, 54, 5, 28, 5, 160, 0, 35, 42]
abbrev dktX6_coupleOf_1 : List UInt8 := dkwX6_coupleOf_1 ++ dktX6_coupleOf_2
def dkwX6_coupleOf_0 : List UInt8 := [28, 153, 0, 7, 29, 154, 0, 5, 3, 172, 17, 3, 232, 42, 28, 5, 160, 0, 7, 4, 167, 0, 4, 3]
abbrev dktX6_coupleOf_0 : List UInt8 := dkwX6_coupleOf_0 ++ dktX6_coupleOf_1
theorem dksX6_coupleOf_0 : cX6_coupleOf.data.toList.drop 0 = dktX6_coupleOf_0 := by decide +kernel
theorem dksX6_coupleOf_1 : cX6_coupleOf.data.toList.drop 24 = dktX6_coupleOf_1 := dk_seg dksX6_coupleOf_0 24 rfl rfl
theorem dksX6_coupleOf_2 : cX6_coupleOf.data.toList.drop 48 = dktX6_coupleOf_2 := dk_seg dksX6_coupleOf_1 24 rfl rfl
theorem dksX6_coupleOf_3 : cX6_coupleOf.data.toList.drop 72 = dktX6_coupleOf_3 := dk_seg dksX6_coupleOf_2 24 rfl rfl
theorem dX6_coupleOf_0 : decode cX6_coupleOf 0 = .ok (.iload_n 2, 1) := dk_28 (dk_at dksX6_coupleOf_0 0 rfl rfl)
theorem dX6_coupleOf_1 : decode cX6_coupleOf 1 = .ok (.ifCond .eq 7, 3) := dk_153 0 7 (dk_at dksX6_coupleOf_0 1 rfl rfl)
theorem dX6_coupleOf_4 : decode cX6_coupleOf 4 = .ok (.iload_n 3, 1) := dk_29 (dk_at dksX6_coupleOf_0 4 rfl rfl)
theorem dX6_coupleOf_5 : decode cX6_coupleOf 5 = .ok (.ifCond .ne 5, 3) := dk_154 0 5 (dk_at dksX6_coupleOf_0 5 rfl rfl)
theorem dX6_coupleOf_8 : decode cX6_coupleOf 8 = .ok (.iconst 0, 1) := dk_3 (dk_at dksX6_coupleOf_0 8 rfl rfl)
theorem dX6_coupleOf_9 : decode cX6_coupleOf 9 = .ok (.ireturn, 1) := dk_172 (dk_at dksX6_coupleOf_0 9 rfl rfl)
theorem dX6_coupleOf_10 : decode cX6_coupleOf 10 = .ok (.sipush 1000, 3) := dk_17 3 232 (dk_at dksX6_coupleOf_0 10 rfl rfl)
theorem dX6_coupleOf_13 : decode cX6_coupleOf 13 = .ok (.aload_n 0, 1) := dk_42 (dk_at dksX6_coupleOf_0 13 rfl rfl)
theorem dX6_coupleOf_14 : decode cX6_coupleOf 14 = .ok (.iload_n 2, 1) := dk_28 (dk_at dksX6_coupleOf_0 14 rfl rfl)
theorem dX6_coupleOf_15 : decode cX6_coupleOf 15 = .ok (.iconst 2, 1) := dk_5 (dk_at dksX6_coupleOf_0 15 rfl rfl)
theorem dX6_coupleOf_16 : decode cX6_coupleOf 16 = .ok (.if_icmp .ne 7, 3) := dk_160 0 7 (dk_at dksX6_coupleOf_0 16 rfl rfl)
theorem dX6_coupleOf_19 : decode cX6_coupleOf 19 = .ok (.iconst 1, 1) := dk_4 (dk_at dksX6_coupleOf_0 19 rfl rfl)
theorem dX6_coupleOf_20 : decode cX6_coupleOf 20 = .ok (.goto 4, 3) := dk_167 0 4 (dk_at dksX6_coupleOf_0 20 rfl rfl)
theorem dX6_coupleOf_23 : decode cX6_coupleOf 23 = .ok (.iconst 0, 1) := dk_3 (dk_at dksX6_coupleOf_0 23 rfl rfl)
theorem dX6_coupleOf_24 : decode cX6_coupleOf 24 = .ok (.iload_n 3, 1) := dk_29 (dk_at dksX6_coupleOf_1 0 rfl rfl)
theorem dX6_coupleOf_25 : decode cX6_coupleOf 25 = .ok (.iconst 2, 1) := dk_5 (dk_at dksX6_coupleOf_1 1 rfl rfl)
theorem dX6_coupleOf_26 : decode cX6_coupleOf 26 = .ok (.if_icmp .ne 7, 3) := dk_160 0 7 (dk_at dksX6_coupleOf_1 2 rfl rfl)
theorem dX6_coupleOf_29 : decode cX6_coupleOf 29 = .ok (.iconst 1, 1) := dk_4 (dk_at dksX6_coupleOf_1 5 rfl rfl)
theorem dX6_coupleOf_30 : decode cX6_coupleOf 30 = .ok (.goto 4, 3) := dk_167 0 4 (dk_at dksX6_coupleOf_1 6 rfl rfl)
theorem dX6_coupleOf_33 : decode cX6_coupleOf 33 = .ok (.iconst 0, 1) := dk_3 (dk_at dksX6_coupleOf_1 9 rfl rfl)
theorem dX6_coupleOf_34 : decode cX6_coupleOf 34 = .ok (.iload 4, 2) := dk_21 4 (dk_at dksX6_coupleOf_1 10 rfl rfl)
theorem dX6_coupleOf_36 : decode cX6_coupleOf 36 = .ok (.invokevirtual 267, 3) := dk_182 1 11 (dk_at dksX6_coupleOf_1 12 rfl rfl)
theorem dX6_coupleOf_39 : decode cX6_coupleOf 39 = .ok (.imul, 1) := dk_104 (dk_at dksX6_coupleOf_1 15 rfl rfl)
theorem dX6_coupleOf_40 : decode cX6_coupleOf 40 = .ok (.istore 5, 2) := dk_54 5 (dk_at dksX6_coupleOf_1 16 rfl rfl)
theorem dX6_coupleOf_42 : decode cX6_coupleOf 42 = .ok (.iload_n 2, 1) := dk_28 (dk_at dksX6_coupleOf_1 18 rfl rfl)
theorem dX6_coupleOf_43 : decode cX6_coupleOf 43 = .ok (.iconst 2, 1) := dk_5 (dk_at dksX6_coupleOf_1 19 rfl rfl)
theorem dX6_coupleOf_44 : decode cX6_coupleOf 44 = .ok (.if_icmp .ne 35, 3) := dk_160 0 35 (dk_at dksX6_coupleOf_1 20 rfl rfl)
theorem dX6_coupleOf_47 : decode cX6_coupleOf 47 = .ok (.aload_n 0, 1) := dk_42 (dk_at dksX6_coupleOf_1 23 rfl rfl)
theorem dX6_coupleOf_48 : decode cX6_coupleOf 48 = .ok (.iload_n 1, 1) := dk_27 (dk_at dksX6_coupleOf_2 0 rfl rfl)
theorem dX6_coupleOf_49 : decode cX6_coupleOf 49 = .ok (.iload 4, 2) := dk_21 4 (dk_at dksX6_coupleOf_2 1 rfl rfl)
theorem dX6_coupleOf_51 : decode cX6_coupleOf 51 = .ok (.invokevirtual 232, 3) := dk_182 0 232 (dk_at dksX6_coupleOf_2 3 rfl rfl)
theorem dX6_coupleOf_54 : decode cX6_coupleOf 54 = .ok (.ifCond .ne 25, 3) := dk_154 0 25 (dk_at dksX6_coupleOf_2 6 rfl rfl)
theorem dX6_coupleOf_57 : decode cX6_coupleOf 57 = .ok (.iload 5, 2) := dk_21 5 (dk_at dksX6_coupleOf_2 9 rfl rfl)
theorem dX6_coupleOf_59 : decode cX6_coupleOf 59 = .ok (.aload_n 0, 1) := dk_42 (dk_at dksX6_coupleOf_2 11 rfl rfl)
theorem dX6_coupleOf_60 : decode cX6_coupleOf 60 = .ok (.getfield 13, 3) := dk_180 0 13 (dk_at dksX6_coupleOf_2 12 rfl rfl)
theorem dX6_coupleOf_63 : decode cX6_coupleOf 63 = .ok (.iconst 5, 1) := dk_8 (dk_at dksX6_coupleOf_2 15 rfl rfl)
theorem dX6_coupleOf_64 : decode cX6_coupleOf 64 = .ok (.iaload, 1) := dk_46 (dk_at dksX6_coupleOf_2 16 rfl rfl)
theorem dX6_coupleOf_65 : decode cX6_coupleOf 65 = .ok (.aload_n 0, 1) := dk_42 (dk_at dksX6_coupleOf_2 17 rfl rfl)
theorem dX6_coupleOf_66 : decode cX6_coupleOf 66 = .ok (.getfield 13, 3) := dk_180 0 13 (dk_at dksX6_coupleOf_2 18 rfl rfl)
theorem dX6_coupleOf_69 : decode cX6_coupleOf 69 = .ok (.iconst 4, 1) := dk_7 (dk_at dksX6_coupleOf_2 21 rfl rfl)
theorem dX6_coupleOf_70 : decode cX6_coupleOf 70 = .ok (.iaload, 1) := dk_46 (dk_at dksX6_coupleOf_2 22 rfl rfl)
theorem dX6_coupleOf_71 : decode cX6_coupleOf 71 = .ok (.imul, 1) := dk_104 (dk_at dksX6_coupleOf_2 23 rfl rfl)
theorem dX6_coupleOf_72 : decode cX6_coupleOf 72 = .ok (.iload 4, 2) := dk_21 4 (dk_at dksX6_coupleOf_3 0 rfl rfl)
theorem dX6_coupleOf_74 : decode cX6_coupleOf 74 = .ok (.imul, 1) := dk_104 (dk_at dksX6_coupleOf_3 2 rfl rfl)
theorem dX6_coupleOf_75 : decode cX6_coupleOf 75 = .ok (.isub, 1) := dk_100 (dk_at dksX6_coupleOf_3 3 rfl rfl)
theorem dX6_coupleOf_76 : decode cX6_coupleOf 76 = .ok (.goto 5, 3) := dk_167 0 5 (dk_at dksX6_coupleOf_3 4 rfl rfl)
theorem dX6_coupleOf_79 : decode cX6_coupleOf 79 = .ok (.iload 5, 2) := dk_21 5 (dk_at dksX6_coupleOf_3 7 rfl rfl)
theorem dX6_coupleOf_81 : decode cX6_coupleOf 81 = .ok (.ireturn, 1) := dk_172 (dk_at dksX6_coupleOf_3 9 rfl rfl)
abbrev cX6_whom : ByteArray := prog_17_method_85_code
def yX6_whom : MethodName := ⟨RX6, "whom", "(II)I"⟩
def dkwX6_whom_5 : List UInt8 := [132, 4, 1, 167, 255, 167, 29, 172]
abbrev dktX6_whom_5 : List UInt8 := dkwX6_whom_5 ++ []
def dkwX6_whom_4 : List UInt8 := [159, 0, 19, 42, 21, 4, 5, 182, 0, 101, 42, 29, 5, 182, 0, 101, 164, 0, 6, 21, 4, 62]
abbrev dktX6_whom_4 : List UInt8 := dkwX6_whom_4 ++ dktX6_whom_5
def dkwX6_whom_3 : List UInt8 := [182, 0, 243, 153, 0, 41, 42, 21, 4, 27, 28, 182, 0, 246, 153, 0, 6, 167, 0, 27, 29, 2]
abbrev dktX6_whom_3 : List UInt8 := dkwX6_whom_3 ++ dktX6_whom_4
def dkwX6_whom_2 : List UInt8 := [182, 0, 101, 157, 0, 63, 42, 21, 4, 27, 28, 182, 0, 243, 153, 0, 52, 42, 27, 21, 4, 28]
abbrev dktX6_whom_2 : List UInt8 := dkwX6_whom_2 ++ dktX6_whom_3
def dkwX6_whom_1 : List UInt8 := [62, 3, 54, 4, 21, 4, 42, 180, 0, 98, 162, 0, 86, 21, 4, 27, 159, 0, 74, 42, 21, 4, 16, 6]
abbrev dktX6_whom_1 : List UInt8 := dkwX6_whom_1 ++ dktX6_whom_2
def dkwX6_whom_0 : List UInt8 := [42, 3, 181, 0, 90, 42, 27, 182, 0, 113, 153, 0, 11, 42, 28, 182, 0, 240, 154, 0, 5, 2, 172, 2]
abbrev dktX6_whom_0 : List UInt8 := dkwX6_whom_0 ++ dktX6_whom_1
theorem dksX6_whom_0 : cX6_whom.data.toList.drop 0 = dktX6_whom_0 := by decide +kernel
theorem dksX6_whom_1 : cX6_whom.data.toList.drop 24 = dktX6_whom_1 := dk_seg dksX6_whom_0 24 rfl rfl
theorem dksX6_whom_2 : cX6_whom.data.toList.drop 48 = dktX6_whom_2 := dk_seg dksX6_whom_1 24 rfl rfl
theorem dksX6_whom_3 : cX6_whom.data.toList.drop 70 = dktX6_whom_3 := dk_seg dksX6_whom_2 22 rfl rfl
theorem dksX6_whom_4 : cX6_whom.data.toList.drop 92 = dktX6_whom_4 := dk_seg dksX6_whom_3 22 rfl rfl
theorem dksX6_whom_5 : cX6_whom.data.toList.drop 114 = dktX6_whom_5 := dk_seg dksX6_whom_4 22 rfl rfl
theorem dX6_whom_0 : decode cX6_whom 0 = .ok (.aload_n 0, 1) := dk_42 (dk_at dksX6_whom_0 0 rfl rfl)
theorem dX6_whom_1 : decode cX6_whom 1 = .ok (.iconst 0, 1) := dk_3 (dk_at dksX6_whom_0 1 rfl rfl)
theorem dX6_whom_2 : decode cX6_whom 2 = .ok (.putfield 90, 3) := dk_181 0 90 (dk_at dksX6_whom_0 2 rfl rfl)
theorem dX6_whom_5 : decode cX6_whom 5 = .ok (.aload_n 0, 1) := dk_42 (dk_at dksX6_whom_0 5 rfl rfl)
theorem dX6_whom_6 : decode cX6_whom 6 = .ok (.iload_n 1, 1) := dk_27 (dk_at dksX6_whom_0 6 rfl rfl)
theorem dX6_whom_7 : decode cX6_whom 7 = .ok (.invokevirtual 113, 3) := dk_182 0 113 (dk_at dksX6_whom_0 7 rfl rfl)
theorem dX6_whom_10 : decode cX6_whom 10 = .ok (.ifCond .eq 11, 3) := dk_153 0 11 (dk_at dksX6_whom_0 10 rfl rfl)
theorem dX6_whom_13 : decode cX6_whom 13 = .ok (.aload_n 0, 1) := dk_42 (dk_at dksX6_whom_0 13 rfl rfl)
theorem dX6_whom_14 : decode cX6_whom 14 = .ok (.iload_n 2, 1) := dk_28 (dk_at dksX6_whom_0 14 rfl rfl)
theorem dX6_whom_15 : decode cX6_whom 15 = .ok (.invokevirtual 240, 3) := dk_182 0 240 (dk_at dksX6_whom_0 15 rfl rfl)
theorem dX6_whom_18 : decode cX6_whom 18 = .ok (.ifCond .ne 5, 3) := dk_154 0 5 (dk_at dksX6_whom_0 18 rfl rfl)
theorem dX6_whom_21 : decode cX6_whom 21 = .ok (.iconst (-1), 1) := dk_2 (dk_at dksX6_whom_0 21 rfl rfl)
theorem dX6_whom_22 : decode cX6_whom 22 = .ok (.ireturn, 1) := dk_172 (dk_at dksX6_whom_0 22 rfl rfl)
theorem dX6_whom_23 : decode cX6_whom 23 = .ok (.iconst (-1), 1) := dk_2 (dk_at dksX6_whom_0 23 rfl rfl)
theorem dX6_whom_24 : decode cX6_whom 24 = .ok (.istore_n 3, 1) := dk_62 (dk_at dksX6_whom_1 0 rfl rfl)
theorem dX6_whom_25 : decode cX6_whom 25 = .ok (.iconst 0, 1) := dk_3 (dk_at dksX6_whom_1 1 rfl rfl)
theorem dX6_whom_26 : decode cX6_whom 26 = .ok (.istore 4, 2) := dk_54 4 (dk_at dksX6_whom_1 2 rfl rfl)
theorem dX6_whom_28 : decode cX6_whom 28 = .ok (.iload 4, 2) := dk_21 4 (dk_at dksX6_whom_1 4 rfl rfl)
theorem dX6_whom_30 : decode cX6_whom 30 = .ok (.aload_n 0, 1) := dk_42 (dk_at dksX6_whom_1 6 rfl rfl)
theorem dX6_whom_31 : decode cX6_whom 31 = .ok (.getfield 98, 3) := dk_180 0 98 (dk_at dksX6_whom_1 7 rfl rfl)
theorem dX6_whom_34 : decode cX6_whom 34 = .ok (.if_icmp .ge 86, 3) := dk_162 0 86 (dk_at dksX6_whom_1 10 rfl rfl)
theorem dX6_whom_37 : decode cX6_whom 37 = .ok (.iload 4, 2) := dk_21 4 (dk_at dksX6_whom_1 13 rfl rfl)
theorem dX6_whom_39 : decode cX6_whom 39 = .ok (.iload_n 1, 1) := dk_27 (dk_at dksX6_whom_1 15 rfl rfl)
theorem dX6_whom_40 : decode cX6_whom 40 = .ok (.if_icmp .eq 74, 3) := dk_159 0 74 (dk_at dksX6_whom_1 16 rfl rfl)
theorem dX6_whom_43 : decode cX6_whom 43 = .ok (.aload_n 0, 1) := dk_42 (dk_at dksX6_whom_1 19 rfl rfl)
theorem dX6_whom_44 : decode cX6_whom 44 = .ok (.iload 4, 2) := dk_21 4 (dk_at dksX6_whom_1 20 rfl rfl)
theorem dX6_whom_46 : decode cX6_whom 46 = .ok (.bipush 6, 2) := dk_16 6 (dk_at dksX6_whom_1 22 rfl rfl)
theorem dX6_whom_48 : decode cX6_whom 48 = .ok (.invokevirtual 101, 3) := dk_182 0 101 (dk_at dksX6_whom_2 0 rfl rfl)
theorem dX6_whom_51 : decode cX6_whom 51 = .ok (.ifCond .gt 63, 3) := dk_157 0 63 (dk_at dksX6_whom_2 3 rfl rfl)
theorem dX6_whom_54 : decode cX6_whom 54 = .ok (.aload_n 0, 1) := dk_42 (dk_at dksX6_whom_2 6 rfl rfl)
theorem dX6_whom_55 : decode cX6_whom 55 = .ok (.iload 4, 2) := dk_21 4 (dk_at dksX6_whom_2 7 rfl rfl)
theorem dX6_whom_57 : decode cX6_whom 57 = .ok (.iload_n 1, 1) := dk_27 (dk_at dksX6_whom_2 9 rfl rfl)
theorem dX6_whom_58 : decode cX6_whom 58 = .ok (.iload_n 2, 1) := dk_28 (dk_at dksX6_whom_2 10 rfl rfl)
theorem dX6_whom_59 : decode cX6_whom 59 = .ok (.invokevirtual 243, 3) := dk_182 0 243 (dk_at dksX6_whom_2 11 rfl rfl)
theorem dX6_whom_62 : decode cX6_whom 62 = .ok (.ifCond .eq 52, 3) := dk_153 0 52 (dk_at dksX6_whom_2 14 rfl rfl)
theorem dX6_whom_65 : decode cX6_whom 65 = .ok (.aload_n 0, 1) := dk_42 (dk_at dksX6_whom_2 17 rfl rfl)
theorem dX6_whom_66 : decode cX6_whom 66 = .ok (.iload_n 1, 1) := dk_27 (dk_at dksX6_whom_2 18 rfl rfl)
theorem dX6_whom_67 : decode cX6_whom 67 = .ok (.iload 4, 2) := dk_21 4 (dk_at dksX6_whom_2 19 rfl rfl)
theorem dX6_whom_69 : decode cX6_whom 69 = .ok (.iload_n 2, 1) := dk_28 (dk_at dksX6_whom_2 21 rfl rfl)
theorem dX6_whom_70 : decode cX6_whom 70 = .ok (.invokevirtual 243, 3) := dk_182 0 243 (dk_at dksX6_whom_3 0 rfl rfl)
theorem dX6_whom_73 : decode cX6_whom 73 = .ok (.ifCond .eq 41, 3) := dk_153 0 41 (dk_at dksX6_whom_3 3 rfl rfl)
theorem dX6_whom_76 : decode cX6_whom 76 = .ok (.aload_n 0, 1) := dk_42 (dk_at dksX6_whom_3 6 rfl rfl)
theorem dX6_whom_77 : decode cX6_whom 77 = .ok (.iload 4, 2) := dk_21 4 (dk_at dksX6_whom_3 7 rfl rfl)
theorem dX6_whom_79 : decode cX6_whom 79 = .ok (.iload_n 1, 1) := dk_27 (dk_at dksX6_whom_3 9 rfl rfl)
theorem dX6_whom_80 : decode cX6_whom 80 = .ok (.iload_n 2, 1) := dk_28 (dk_at dksX6_whom_3 10 rfl rfl)
theorem dX6_whom_81 : decode cX6_whom 81 = .ok (.invokevirtual 246, 3) := dk_182 0 246 (dk_at dksX6_whom_3 11 rfl rfl)
theorem dX6_whom_84 : decode cX6_whom 84 = .ok (.ifCond .eq 6, 3) := dk_153 0 6 (dk_at dksX6_whom_3 14 rfl rfl)
theorem dX6_whom_87 : decode cX6_whom 87 = .ok (.goto 27, 3) := dk_167 0 27 (dk_at dksX6_whom_3 17 rfl rfl)
theorem dX6_whom_90 : decode cX6_whom 90 = .ok (.iload_n 3, 1) := dk_29 (dk_at dksX6_whom_3 20 rfl rfl)
theorem dX6_whom_91 : decode cX6_whom 91 = .ok (.iconst (-1), 1) := dk_2 (dk_at dksX6_whom_3 21 rfl rfl)
theorem dX6_whom_92 : decode cX6_whom 92 = .ok (.if_icmp .eq 19, 3) := dk_159 0 19 (dk_at dksX6_whom_4 0 rfl rfl)
theorem dX6_whom_95 : decode cX6_whom 95 = .ok (.aload_n 0, 1) := dk_42 (dk_at dksX6_whom_4 3 rfl rfl)
theorem dX6_whom_96 : decode cX6_whom 96 = .ok (.iload 4, 2) := dk_21 4 (dk_at dksX6_whom_4 4 rfl rfl)
theorem dX6_whom_98 : decode cX6_whom 98 = .ok (.iconst 2, 1) := dk_5 (dk_at dksX6_whom_4 6 rfl rfl)
theorem dX6_whom_99 : decode cX6_whom 99 = .ok (.invokevirtual 101, 3) := dk_182 0 101 (dk_at dksX6_whom_4 7 rfl rfl)
theorem dX6_whom_102 : decode cX6_whom 102 = .ok (.aload_n 0, 1) := dk_42 (dk_at dksX6_whom_4 10 rfl rfl)
theorem dX6_whom_103 : decode cX6_whom 103 = .ok (.iload_n 3, 1) := dk_29 (dk_at dksX6_whom_4 11 rfl rfl)
theorem dX6_whom_104 : decode cX6_whom 104 = .ok (.iconst 2, 1) := dk_5 (dk_at dksX6_whom_4 12 rfl rfl)
theorem dX6_whom_105 : decode cX6_whom 105 = .ok (.invokevirtual 101, 3) := dk_182 0 101 (dk_at dksX6_whom_4 13 rfl rfl)
theorem dX6_whom_108 : decode cX6_whom 108 = .ok (.if_icmp .le 6, 3) := dk_164 0 6 (dk_at dksX6_whom_4 16 rfl rfl)
theorem dX6_whom_111 : decode cX6_whom 111 = .ok (.iload 4, 2) := dk_21 4 (dk_at dksX6_whom_4 19 rfl rfl)
theorem dX6_whom_113 : decode cX6_whom 113 = .ok (.istore_n 3, 1) := dk_62 (dk_at dksX6_whom_4 21 rfl rfl)
theorem dX6_whom_114 : decode cX6_whom 114 = .ok (.iinc 4 1, 3) := dk_132 4 1 (dk_at dksX6_whom_5 0 rfl rfl)
theorem dX6_whom_117 : decode cX6_whom 117 = .ok (.goto (-89), 3) := dk_167 255 167 (dk_at dksX6_whom_5 3 rfl rfl)
theorem dX6_whom_120 : decode cX6_whom 120 = .ok (.iload_n 3, 1) := dk_29 (dk_at dksX6_whom_5 6 rfl rfl)
theorem dX6_whom_121 : decode cX6_whom 121 = .ok (.ireturn, 1) := dk_172 (dk_at dksX6_whom_5 7 rfl rfl)
abbrev cX6_trust : ByteArray := prog_17_method_86_code
def yX6_trust : MethodName := ⟨RX6, "trust", "(II)I"⟩
def dkwX6_trust_6 : List UInt8 := [167, 255, 151, 29, 172]
abbrev dktX6_trust_6 : List UInt8 := dkwX6_trust_6 ++ []
def dkwX6_trust_5 : List UInt8 := [4, 159, 0, 9, 21, 6, 5, 160, 0, 7, 29, 4, 96, 62, 132, 5, 1, 167, 255, 169, 132, 4, 1]
abbrev dktX6_trust_5 : List UInt8 := dkwX6_trust_5 ++ dktX6_trust_6
def dkwX6_trust_4 : List UInt8 := [167, 0, 38, 28, 153, 0, 30, 28, 4, 160, 0, 8, 21, 6, 154, 0, 20, 28, 5, 160, 0, 19, 21, 6]
abbrev dktX6_trust_4 : List UInt8 := dkwX6_trust_4 ++ dktX6_trust_5
def dkwX6_trust_3 : List UInt8 := [180, 0, 16, 16, 8, 21, 4, 104, 16, 6, 96, 21, 5, 96, 46, 16, 10, 108, 27, 159, 0, 6]
abbrev dktX6_trust_3 : List UInt8 := dkwX6_trust_3 ++ dktX6_trust_4
def dkwX6_trust_2 : List UInt8 := [5, 162, 0, 87, 42, 180, 0, 16, 16, 8, 21, 4, 104, 7, 96, 21, 5, 96, 46, 54, 6, 42]
abbrev dktX6_trust_2 : List UInt8 := dkwX6_trust_2 ++ dktX6_trust_3
def dkwX6_trust_1 : List UInt8 := [154, 0, 5, 2, 172, 3, 62, 3, 54, 4, 21, 4, 42, 180, 1, 8, 162, 0, 102, 3, 54, 5, 21, 5]
abbrev dktX6_trust_1 : List UInt8 := dkwX6_trust_1 ++ dktX6_trust_2
def dkwX6_trust_0 : List UInt8 := [42, 3, 181, 0, 90, 42, 27, 3, 16, 9, 182, 0, 109, 153, 0, 13, 42, 28, 3, 5, 182, 0, 109]
abbrev dktX6_trust_0 : List UInt8 := dkwX6_trust_0 ++ dktX6_trust_1
theorem dksX6_trust_0 : cX6_trust.data.toList.drop 0 = dktX6_trust_0 := by decide +kernel
theorem dksX6_trust_1 : cX6_trust.data.toList.drop 23 = dktX6_trust_1 := dk_seg dksX6_trust_0 23 rfl rfl
theorem dksX6_trust_2 : cX6_trust.data.toList.drop 47 = dktX6_trust_2 := dk_seg dksX6_trust_1 24 rfl rfl
theorem dksX6_trust_3 : cX6_trust.data.toList.drop 69 = dktX6_trust_3 := dk_seg dksX6_trust_2 22 rfl rfl
theorem dksX6_trust_4 : cX6_trust.data.toList.drop 91 = dktX6_trust_4 := dk_seg dksX6_trust_3 22 rfl rfl
theorem dksX6_trust_5 : cX6_trust.data.toList.drop 115 = dktX6_trust_5 := dk_seg dksX6_trust_4 24 rfl rfl
theorem dksX6_trust_6 : cX6_trust.data.toList.drop 138 = dktX6_trust_6 := dk_seg dksX6_trust_5 23 rfl rfl
theorem dX6_trust_0 : decode cX6_trust 0 = .ok (.aload_n 0, 1) := dk_42 (dk_at dksX6_trust_0 0 rfl rfl)
theorem dX6_trust_1 : decode cX6_trust 1 = .ok (.iconst 0, 1) := dk_3 (dk_at dksX6_trust_0 1 rfl rfl)
theorem dX6_trust_2 : decode cX6_trust 2 = .ok (.putfield 90, 3) := dk_181 0 90 (dk_at dksX6_trust_0 2 rfl rfl)
theorem dX6_trust_5 : decode cX6_trust 5 = .ok (.aload_n 0, 1) := dk_42 (dk_at dksX6_trust_0 5 rfl rfl)
theorem dX6_trust_6 : decode cX6_trust 6 = .ok (.iload_n 1, 1) := dk_27 (dk_at dksX6_trust_0 6 rfl rfl)
theorem dX6_trust_7 : decode cX6_trust 7 = .ok (.iconst 0, 1) := dk_3 (dk_at dksX6_trust_0 7 rfl rfl)
theorem dX6_trust_8 : decode cX6_trust 8 = .ok (.bipush 9, 2) := dk_16 9 (dk_at dksX6_trust_0 8 rfl rfl)
theorem dX6_trust_10 : decode cX6_trust 10 = .ok (.invokevirtual 109, 3) := dk_182 0 109 (dk_at dksX6_trust_0 10 rfl rfl)
theorem dX6_trust_13 : decode cX6_trust 13 = .ok (.ifCond .eq 13, 3) := dk_153 0 13 (dk_at dksX6_trust_0 13 rfl rfl)
theorem dX6_trust_16 : decode cX6_trust 16 = .ok (.aload_n 0, 1) := dk_42 (dk_at dksX6_trust_0 16 rfl rfl)
theorem dX6_trust_17 : decode cX6_trust 17 = .ok (.iload_n 2, 1) := dk_28 (dk_at dksX6_trust_0 17 rfl rfl)
theorem dX6_trust_18 : decode cX6_trust 18 = .ok (.iconst 0, 1) := dk_3 (dk_at dksX6_trust_0 18 rfl rfl)
theorem dX6_trust_19 : decode cX6_trust 19 = .ok (.iconst 2, 1) := dk_5 (dk_at dksX6_trust_0 19 rfl rfl)
theorem dX6_trust_20 : decode cX6_trust 20 = .ok (.invokevirtual 109, 3) := dk_182 0 109 (dk_at dksX6_trust_0 20 rfl rfl)
theorem dX6_trust_23 : decode cX6_trust 23 = .ok (.ifCond .ne 5, 3) := dk_154 0 5 (dk_at dksX6_trust_1 0 rfl rfl)
theorem dX6_trust_26 : decode cX6_trust 26 = .ok (.iconst (-1), 1) := dk_2 (dk_at dksX6_trust_1 3 rfl rfl)
theorem dX6_trust_27 : decode cX6_trust 27 = .ok (.ireturn, 1) := dk_172 (dk_at dksX6_trust_1 4 rfl rfl)
theorem dX6_trust_28 : decode cX6_trust 28 = .ok (.iconst 0, 1) := dk_3 (dk_at dksX6_trust_1 5 rfl rfl)
theorem dX6_trust_29 : decode cX6_trust 29 = .ok (.istore_n 3, 1) := dk_62 (dk_at dksX6_trust_1 6 rfl rfl)
theorem dX6_trust_30 : decode cX6_trust 30 = .ok (.iconst 0, 1) := dk_3 (dk_at dksX6_trust_1 7 rfl rfl)
theorem dX6_trust_31 : decode cX6_trust 31 = .ok (.istore 4, 2) := dk_54 4 (dk_at dksX6_trust_1 8 rfl rfl)
theorem dX6_trust_33 : decode cX6_trust 33 = .ok (.iload 4, 2) := dk_21 4 (dk_at dksX6_trust_1 10 rfl rfl)
theorem dX6_trust_35 : decode cX6_trust 35 = .ok (.aload_n 0, 1) := dk_42 (dk_at dksX6_trust_1 12 rfl rfl)
theorem dX6_trust_36 : decode cX6_trust 36 = .ok (.getfield 264, 3) := dk_180 1 8 (dk_at dksX6_trust_1 13 rfl rfl)
theorem dX6_trust_39 : decode cX6_trust 39 = .ok (.if_icmp .ge 102, 3) := dk_162 0 102 (dk_at dksX6_trust_1 16 rfl rfl)
theorem dX6_trust_42 : decode cX6_trust 42 = .ok (.iconst 0, 1) := dk_3 (dk_at dksX6_trust_1 19 rfl rfl)
theorem dX6_trust_43 : decode cX6_trust 43 = .ok (.istore 5, 2) := dk_54 5 (dk_at dksX6_trust_1 20 rfl rfl)
theorem dX6_trust_45 : decode cX6_trust 45 = .ok (.iload 5, 2) := dk_21 5 (dk_at dksX6_trust_1 22 rfl rfl)
theorem dX6_trust_47 : decode cX6_trust 47 = .ok (.iconst 2, 1) := dk_5 (dk_at dksX6_trust_2 0 rfl rfl)
theorem dX6_trust_48 : decode cX6_trust 48 = .ok (.if_icmp .ge 87, 3) := dk_162 0 87 (dk_at dksX6_trust_2 1 rfl rfl)
theorem dX6_trust_51 : decode cX6_trust 51 = .ok (.aload_n 0, 1) := dk_42 (dk_at dksX6_trust_2 4 rfl rfl)
theorem dX6_trust_52 : decode cX6_trust 52 = .ok (.getfield 16, 3) := dk_180 0 16 (dk_at dksX6_trust_2 5 rfl rfl)
theorem dX6_trust_55 : decode cX6_trust 55 = .ok (.bipush 8, 2) := dk_16 8 (dk_at dksX6_trust_2 8 rfl rfl)
theorem dX6_trust_57 : decode cX6_trust 57 = .ok (.iload 4, 2) := dk_21 4 (dk_at dksX6_trust_2 10 rfl rfl)
theorem dX6_trust_59 : decode cX6_trust 59 = .ok (.imul, 1) := dk_104 (dk_at dksX6_trust_2 12 rfl rfl)
theorem dX6_trust_60 : decode cX6_trust 60 = .ok (.iconst 4, 1) := dk_7 (dk_at dksX6_trust_2 13 rfl rfl)
theorem dX6_trust_61 : decode cX6_trust 61 = .ok (.iadd, 1) := dk_96 (dk_at dksX6_trust_2 14 rfl rfl)
theorem dX6_trust_62 : decode cX6_trust 62 = .ok (.iload 5, 2) := dk_21 5 (dk_at dksX6_trust_2 15 rfl rfl)
theorem dX6_trust_64 : decode cX6_trust 64 = .ok (.iadd, 1) := dk_96 (dk_at dksX6_trust_2 17 rfl rfl)
theorem dX6_trust_65 : decode cX6_trust 65 = .ok (.iaload, 1) := dk_46 (dk_at dksX6_trust_2 18 rfl rfl)
theorem dX6_trust_66 : decode cX6_trust 66 = .ok (.istore 6, 2) := dk_54 6 (dk_at dksX6_trust_2 19 rfl rfl)
theorem dX6_trust_68 : decode cX6_trust 68 = .ok (.aload_n 0, 1) := dk_42 (dk_at dksX6_trust_2 21 rfl rfl)
theorem dX6_trust_69 : decode cX6_trust 69 = .ok (.getfield 16, 3) := dk_180 0 16 (dk_at dksX6_trust_3 0 rfl rfl)
theorem dX6_trust_72 : decode cX6_trust 72 = .ok (.bipush 8, 2) := dk_16 8 (dk_at dksX6_trust_3 3 rfl rfl)
theorem dX6_trust_74 : decode cX6_trust 74 = .ok (.iload 4, 2) := dk_21 4 (dk_at dksX6_trust_3 5 rfl rfl)
theorem dX6_trust_76 : decode cX6_trust 76 = .ok (.imul, 1) := dk_104 (dk_at dksX6_trust_3 7 rfl rfl)
theorem dX6_trust_77 : decode cX6_trust 77 = .ok (.bipush 6, 2) := dk_16 6 (dk_at dksX6_trust_3 8 rfl rfl)
theorem dX6_trust_79 : decode cX6_trust 79 = .ok (.iadd, 1) := dk_96 (dk_at dksX6_trust_3 10 rfl rfl)
theorem dX6_trust_80 : decode cX6_trust 80 = .ok (.iload 5, 2) := dk_21 5 (dk_at dksX6_trust_3 11 rfl rfl)
theorem dX6_trust_82 : decode cX6_trust 82 = .ok (.iadd, 1) := dk_96 (dk_at dksX6_trust_3 13 rfl rfl)
theorem dX6_trust_83 : decode cX6_trust 83 = .ok (.iaload, 1) := dk_46 (dk_at dksX6_trust_3 14 rfl rfl)
theorem dX6_trust_84 : decode cX6_trust 84 = .ok (.bipush 10, 2) := dk_16 10 (dk_at dksX6_trust_3 15 rfl rfl)
theorem dX6_trust_86 : decode cX6_trust 86 = .ok (.idiv, 1) := dk_108 (dk_at dksX6_trust_3 17 rfl rfl)
theorem dX6_trust_87 : decode cX6_trust 87 = .ok (.iload_n 1, 1) := dk_27 (dk_at dksX6_trust_3 18 rfl rfl)
theorem dX6_trust_88 : decode cX6_trust 88 = .ok (.if_icmp .eq 6, 3) := dk_159 0 6 (dk_at dksX6_trust_3 19 rfl rfl)
theorem dX6_trust_91 : decode cX6_trust 91 = .ok (.goto 38, 3) := dk_167 0 38 (dk_at dksX6_trust_4 0 rfl rfl)
theorem dX6_trust_94 : decode cX6_trust 94 = .ok (.iload_n 2, 1) := dk_28 (dk_at dksX6_trust_4 3 rfl rfl)
theorem dX6_trust_95 : decode cX6_trust 95 = .ok (.ifCond .eq 30, 3) := dk_153 0 30 (dk_at dksX6_trust_4 4 rfl rfl)
theorem dX6_trust_98 : decode cX6_trust 98 = .ok (.iload_n 2, 1) := dk_28 (dk_at dksX6_trust_4 7 rfl rfl)
theorem dX6_trust_99 : decode cX6_trust 99 = .ok (.iconst 1, 1) := dk_4 (dk_at dksX6_trust_4 8 rfl rfl)
theorem dX6_trust_100 : decode cX6_trust 100 = .ok (.if_icmp .ne 8, 3) := dk_160 0 8 (dk_at dksX6_trust_4 9 rfl rfl)
theorem dX6_trust_103 : decode cX6_trust 103 = .ok (.iload 6, 2) := dk_21 6 (dk_at dksX6_trust_4 12 rfl rfl)
theorem dX6_trust_105 : decode cX6_trust 105 = .ok (.ifCond .ne 20, 3) := dk_154 0 20 (dk_at dksX6_trust_4 14 rfl rfl)
theorem dX6_trust_108 : decode cX6_trust 108 = .ok (.iload_n 2, 1) := dk_28 (dk_at dksX6_trust_4 17 rfl rfl)
theorem dX6_trust_109 : decode cX6_trust 109 = .ok (.iconst 2, 1) := dk_5 (dk_at dksX6_trust_4 18 rfl rfl)
theorem dX6_trust_110 : decode cX6_trust 110 = .ok (.if_icmp .ne 19, 3) := dk_160 0 19 (dk_at dksX6_trust_4 19 rfl rfl)
theorem dX6_trust_113 : decode cX6_trust 113 = .ok (.iload 6, 2) := dk_21 6 (dk_at dksX6_trust_4 22 rfl rfl)
theorem dX6_trust_115 : decode cX6_trust 115 = .ok (.iconst 1, 1) := dk_4 (dk_at dksX6_trust_5 0 rfl rfl)
theorem dX6_trust_116 : decode cX6_trust 116 = .ok (.if_icmp .eq 9, 3) := dk_159 0 9 (dk_at dksX6_trust_5 1 rfl rfl)
theorem dX6_trust_119 : decode cX6_trust 119 = .ok (.iload 6, 2) := dk_21 6 (dk_at dksX6_trust_5 4 rfl rfl)
theorem dX6_trust_121 : decode cX6_trust 121 = .ok (.iconst 2, 1) := dk_5 (dk_at dksX6_trust_5 6 rfl rfl)
theorem dX6_trust_122 : decode cX6_trust 122 = .ok (.if_icmp .ne 7, 3) := dk_160 0 7 (dk_at dksX6_trust_5 7 rfl rfl)
theorem dX6_trust_125 : decode cX6_trust 125 = .ok (.iload_n 3, 1) := dk_29 (dk_at dksX6_trust_5 10 rfl rfl)
theorem dX6_trust_126 : decode cX6_trust 126 = .ok (.iconst 1, 1) := dk_4 (dk_at dksX6_trust_5 11 rfl rfl)
theorem dX6_trust_127 : decode cX6_trust 127 = .ok (.iadd, 1) := dk_96 (dk_at dksX6_trust_5 12 rfl rfl)
theorem dX6_trust_128 : decode cX6_trust 128 = .ok (.istore_n 3, 1) := dk_62 (dk_at dksX6_trust_5 13 rfl rfl)
theorem dX6_trust_129 : decode cX6_trust 129 = .ok (.iinc 5 1, 3) := dk_132 5 1 (dk_at dksX6_trust_5 14 rfl rfl)
theorem dX6_trust_132 : decode cX6_trust 132 = .ok (.goto (-87), 3) := dk_167 255 169 (dk_at dksX6_trust_5 17 rfl rfl)
theorem dX6_trust_135 : decode cX6_trust 135 = .ok (.iinc 4 1, 3) := dk_132 4 1 (dk_at dksX6_trust_5 20 rfl rfl)
theorem dX6_trust_138 : decode cX6_trust 138 = .ok (.goto (-105), 3) := dk_167 255 151 (dk_at dksX6_trust_6 0 rfl rfl)
theorem dX6_trust_141 : decode cX6_trust 141 = .ok (.iload_n 3, 1) := dk_29 (dk_at dksX6_trust_6 3 rfl rfl)
theorem dX6_trust_142 : decode cX6_trust 142 = .ok (.ireturn, 1) := dk_172 (dk_at dksX6_trust_6 4 rfl rfl)
abbrev cX6_held : ByteArray := prog_17_method_87_code
def yX6_held : MethodName := ⟨RX6, "held", "(II)I"⟩
def dkwX6_held_6 : List UInt8 := [182, 0, 101, 29, 100, 172]
abbrev dktX6_held_6 : List UInt8 := dkwX6_held_6 ++ []
def dkwX6_held_5 : List UInt8 := [132, 5, 1, 167, 255, 180, 132, 4, 1, 167, 255, 162, 42, 27, 28, 154, 0, 7, 5, 167, 0, 4, 6]
abbrev dktX6_held_5 : List UInt8 := dkwX6_held_5 ++ dktX6_held_6
def dkwX6_held_4 : List UInt8 := [21, 6, 153, 0, 18, 21, 6, 6, 160, 0, 16, 167, 0, 9, 21, 6, 4, 160, 0, 7, 29, 4, 96, 62]
abbrev dktX6_held_4 : List UInt8 := dkwX6_held_4 ++ dktX6_held_5
def dkwX6_held_3 : List UInt8 := [167, 0, 48, 42, 180, 0, 16, 16, 8, 21, 4, 104, 7, 96, 21, 5, 96, 46, 54, 6, 28, 154, 0, 17]
abbrev dktX6_held_3 : List UInt8 := dkwX6_held_3 ++ dktX6_held_4
def dkwX6_held_2 : List UInt8 := [162, 0, 76, 42, 180, 0, 16, 16, 8, 21, 4, 104, 4, 96, 21, 5, 96, 46, 27, 159, 0, 6]
abbrev dktX6_held_2 : List UInt8 := dkwX6_held_2 ++ dktX6_held_3
def dkwX6_held_1 : List UInt8 := [18, 239, 172, 3, 62, 3, 54, 4, 21, 4, 42, 180, 1, 8, 162, 0, 91, 3, 54, 5, 21, 5, 5]
abbrev dktX6_held_1 : List UInt8 := dkwX6_held_1 ++ dktX6_held_2
def dkwX6_held_0 : List UInt8 := [42, 3, 181, 0, 90, 42, 27, 182, 0, 113, 153, 0, 13, 42, 28, 3, 4, 182, 0, 109, 154, 0, 6]
abbrev dktX6_held_0 : List UInt8 := dkwX6_held_0 ++ dktX6_held_1
theorem dksX6_held_0 : cX6_held.data.toList.drop 0 = dktX6_held_0 := by decide +kernel
theorem dksX6_held_1 : cX6_held.data.toList.drop 23 = dktX6_held_1 := dk_seg dksX6_held_0 23 rfl rfl
theorem dksX6_held_2 : cX6_held.data.toList.drop 46 = dktX6_held_2 := dk_seg dksX6_held_1 23 rfl rfl
theorem dksX6_held_3 : cX6_held.data.toList.drop 68 = dktX6_held_3 := dk_seg dksX6_held_2 22 rfl rfl
theorem dksX6_held_4 : cX6_held.data.toList.drop 92 = dktX6_held_4 := dk_seg dksX6_held_3 24 rfl rfl
theorem dksX6_held_5 : cX6_held.data.toList.drop 116 = dktX6_held_5 := dk_seg dksX6_held_4 24 rfl rfl
theorem dksX6_held_6 : cX6_held.data.toList.drop 139 = dktX6_held_6 := dk_seg dksX6_held_5 23 rfl rfl
theorem dX6_held_0 : decode cX6_held 0 = .ok (.aload_n 0, 1) := dk_42 (dk_at dksX6_held_0 0 rfl rfl)
theorem dX6_held_1 : decode cX6_held 1 = .ok (.iconst 0, 1) := dk_3 (dk_at dksX6_held_0 1 rfl rfl)
theorem dX6_held_2 : decode cX6_held 2 = .ok (.putfield 90, 3) := dk_181 0 90 (dk_at dksX6_held_0 2 rfl rfl)
theorem dX6_held_5 : decode cX6_held 5 = .ok (.aload_n 0, 1) := dk_42 (dk_at dksX6_held_0 5 rfl rfl)
theorem dX6_held_6 : decode cX6_held 6 = .ok (.iload_n 1, 1) := dk_27 (dk_at dksX6_held_0 6 rfl rfl)
theorem dX6_held_7 : decode cX6_held 7 = .ok (.invokevirtual 113, 3) := dk_182 0 113 (dk_at dksX6_held_0 7 rfl rfl)
theorem dX6_held_10 : decode cX6_held 10 = .ok (.ifCond .eq 13, 3) := dk_153 0 13 (dk_at dksX6_held_0 10 rfl rfl)
theorem dX6_held_13 : decode cX6_held 13 = .ok (.aload_n 0, 1) := dk_42 (dk_at dksX6_held_0 13 rfl rfl)
theorem dX6_held_14 : decode cX6_held 14 = .ok (.iload_n 2, 1) := dk_28 (dk_at dksX6_held_0 14 rfl rfl)
theorem dX6_held_15 : decode cX6_held 15 = .ok (.iconst 0, 1) := dk_3 (dk_at dksX6_held_0 15 rfl rfl)
theorem dX6_held_16 : decode cX6_held 16 = .ok (.iconst 1, 1) := dk_4 (dk_at dksX6_held_0 16 rfl rfl)
theorem dX6_held_17 : decode cX6_held 17 = .ok (.invokevirtual 109, 3) := dk_182 0 109 (dk_at dksX6_held_0 17 rfl rfl)
theorem dX6_held_20 : decode cX6_held 20 = .ok (.ifCond .ne 6, 3) := dk_154 0 6 (dk_at dksX6_held_0 20 rfl rfl)
theorem dX6_held_23 : decode cX6_held 23 = .ok (.ldc 239, 2) := dk_18 239 (dk_at dksX6_held_1 0 rfl rfl)
theorem dX6_held_25 : decode cX6_held 25 = .ok (.ireturn, 1) := dk_172 (dk_at dksX6_held_1 2 rfl rfl)
theorem dX6_held_26 : decode cX6_held 26 = .ok (.iconst 0, 1) := dk_3 (dk_at dksX6_held_1 3 rfl rfl)
theorem dX6_held_27 : decode cX6_held 27 = .ok (.istore_n 3, 1) := dk_62 (dk_at dksX6_held_1 4 rfl rfl)
theorem dX6_held_28 : decode cX6_held 28 = .ok (.iconst 0, 1) := dk_3 (dk_at dksX6_held_1 5 rfl rfl)
theorem dX6_held_29 : decode cX6_held 29 = .ok (.istore 4, 2) := dk_54 4 (dk_at dksX6_held_1 6 rfl rfl)
theorem dX6_held_31 : decode cX6_held 31 = .ok (.iload 4, 2) := dk_21 4 (dk_at dksX6_held_1 8 rfl rfl)
theorem dX6_held_33 : decode cX6_held 33 = .ok (.aload_n 0, 1) := dk_42 (dk_at dksX6_held_1 10 rfl rfl)
theorem dX6_held_34 : decode cX6_held 34 = .ok (.getfield 264, 3) := dk_180 1 8 (dk_at dksX6_held_1 11 rfl rfl)
theorem dX6_held_37 : decode cX6_held 37 = .ok (.if_icmp .ge 91, 3) := dk_162 0 91 (dk_at dksX6_held_1 14 rfl rfl)
theorem dX6_held_40 : decode cX6_held 40 = .ok (.iconst 0, 1) := dk_3 (dk_at dksX6_held_1 17 rfl rfl)
theorem dX6_held_41 : decode cX6_held 41 = .ok (.istore 5, 2) := dk_54 5 (dk_at dksX6_held_1 18 rfl rfl)
theorem dX6_held_43 : decode cX6_held 43 = .ok (.iload 5, 2) := dk_21 5 (dk_at dksX6_held_1 20 rfl rfl)
theorem dX6_held_45 : decode cX6_held 45 = .ok (.iconst 2, 1) := dk_5 (dk_at dksX6_held_1 22 rfl rfl)
theorem dX6_held_46 : decode cX6_held 46 = .ok (.if_icmp .ge 76, 3) := dk_162 0 76 (dk_at dksX6_held_2 0 rfl rfl)
theorem dX6_held_49 : decode cX6_held 49 = .ok (.aload_n 0, 1) := dk_42 (dk_at dksX6_held_2 3 rfl rfl)
theorem dX6_held_50 : decode cX6_held 50 = .ok (.getfield 16, 3) := dk_180 0 16 (dk_at dksX6_held_2 4 rfl rfl)
theorem dX6_held_53 : decode cX6_held 53 = .ok (.bipush 8, 2) := dk_16 8 (dk_at dksX6_held_2 7 rfl rfl)
theorem dX6_held_55 : decode cX6_held 55 = .ok (.iload 4, 2) := dk_21 4 (dk_at dksX6_held_2 9 rfl rfl)
theorem dX6_held_57 : decode cX6_held 57 = .ok (.imul, 1) := dk_104 (dk_at dksX6_held_2 11 rfl rfl)
theorem dX6_held_58 : decode cX6_held 58 = .ok (.iconst 1, 1) := dk_4 (dk_at dksX6_held_2 12 rfl rfl)
theorem dX6_held_59 : decode cX6_held 59 = .ok (.iadd, 1) := dk_96 (dk_at dksX6_held_2 13 rfl rfl)
theorem dX6_held_60 : decode cX6_held 60 = .ok (.iload 5, 2) := dk_21 5 (dk_at dksX6_held_2 14 rfl rfl)
theorem dX6_held_62 : decode cX6_held 62 = .ok (.iadd, 1) := dk_96 (dk_at dksX6_held_2 16 rfl rfl)
theorem dX6_held_63 : decode cX6_held 63 = .ok (.iaload, 1) := dk_46 (dk_at dksX6_held_2 17 rfl rfl)
theorem dX6_held_64 : decode cX6_held 64 = .ok (.iload_n 1, 1) := dk_27 (dk_at dksX6_held_2 18 rfl rfl)
theorem dX6_held_65 : decode cX6_held 65 = .ok (.if_icmp .eq 6, 3) := dk_159 0 6 (dk_at dksX6_held_2 19 rfl rfl)
theorem dX6_held_68 : decode cX6_held 68 = .ok (.goto 48, 3) := dk_167 0 48 (dk_at dksX6_held_3 0 rfl rfl)
theorem dX6_held_71 : decode cX6_held 71 = .ok (.aload_n 0, 1) := dk_42 (dk_at dksX6_held_3 3 rfl rfl)
theorem dX6_held_72 : decode cX6_held 72 = .ok (.getfield 16, 3) := dk_180 0 16 (dk_at dksX6_held_3 4 rfl rfl)
theorem dX6_held_75 : decode cX6_held 75 = .ok (.bipush 8, 2) := dk_16 8 (dk_at dksX6_held_3 7 rfl rfl)
theorem dX6_held_77 : decode cX6_held 77 = .ok (.iload 4, 2) := dk_21 4 (dk_at dksX6_held_3 9 rfl rfl)
theorem dX6_held_79 : decode cX6_held 79 = .ok (.imul, 1) := dk_104 (dk_at dksX6_held_3 11 rfl rfl)
theorem dX6_held_80 : decode cX6_held 80 = .ok (.iconst 4, 1) := dk_7 (dk_at dksX6_held_3 12 rfl rfl)
theorem dX6_held_81 : decode cX6_held 81 = .ok (.iadd, 1) := dk_96 (dk_at dksX6_held_3 13 rfl rfl)
theorem dX6_held_82 : decode cX6_held 82 = .ok (.iload 5, 2) := dk_21 5 (dk_at dksX6_held_3 14 rfl rfl)
theorem dX6_held_84 : decode cX6_held 84 = .ok (.iadd, 1) := dk_96 (dk_at dksX6_held_3 16 rfl rfl)
theorem dX6_held_85 : decode cX6_held 85 = .ok (.iaload, 1) := dk_46 (dk_at dksX6_held_3 17 rfl rfl)
theorem dX6_held_86 : decode cX6_held 86 = .ok (.istore 6, 2) := dk_54 6 (dk_at dksX6_held_3 18 rfl rfl)
theorem dX6_held_88 : decode cX6_held 88 = .ok (.iload_n 2, 1) := dk_28 (dk_at dksX6_held_3 20 rfl rfl)
theorem dX6_held_89 : decode cX6_held 89 = .ok (.ifCond .ne 17, 3) := dk_154 0 17 (dk_at dksX6_held_3 21 rfl rfl)
theorem dX6_held_92 : decode cX6_held 92 = .ok (.iload 6, 2) := dk_21 6 (dk_at dksX6_held_4 0 rfl rfl)
theorem dX6_held_94 : decode cX6_held 94 = .ok (.ifCond .eq 18, 3) := dk_153 0 18 (dk_at dksX6_held_4 2 rfl rfl)
theorem dX6_held_97 : decode cX6_held 97 = .ok (.iload 6, 2) := dk_21 6 (dk_at dksX6_held_4 5 rfl rfl)
theorem dX6_held_99 : decode cX6_held 99 = .ok (.iconst 3, 1) := dk_6 (dk_at dksX6_held_4 7 rfl rfl)
theorem dX6_held_100 : decode cX6_held 100 = .ok (.if_icmp .ne 16, 3) := dk_160 0 16 (dk_at dksX6_held_4 8 rfl rfl)
theorem dX6_held_103 : decode cX6_held 103 = .ok (.goto 9, 3) := dk_167 0 9 (dk_at dksX6_held_4 11 rfl rfl)
theorem dX6_held_106 : decode cX6_held 106 = .ok (.iload 6, 2) := dk_21 6 (dk_at dksX6_held_4 14 rfl rfl)
theorem dX6_held_108 : decode cX6_held 108 = .ok (.iconst 1, 1) := dk_4 (dk_at dksX6_held_4 16 rfl rfl)
theorem dX6_held_109 : decode cX6_held 109 = .ok (.if_icmp .ne 7, 3) := dk_160 0 7 (dk_at dksX6_held_4 17 rfl rfl)
theorem dX6_held_112 : decode cX6_held 112 = .ok (.iload_n 3, 1) := dk_29 (dk_at dksX6_held_4 20 rfl rfl)
theorem dX6_held_113 : decode cX6_held 113 = .ok (.iconst 1, 1) := dk_4 (dk_at dksX6_held_4 21 rfl rfl)
theorem dX6_held_114 : decode cX6_held 114 = .ok (.iadd, 1) := dk_96 (dk_at dksX6_held_4 22 rfl rfl)
theorem dX6_held_115 : decode cX6_held 115 = .ok (.istore_n 3, 1) := dk_62 (dk_at dksX6_held_4 23 rfl rfl)
theorem dX6_held_116 : decode cX6_held 116 = .ok (.iinc 5 1, 3) := dk_132 5 1 (dk_at dksX6_held_5 0 rfl rfl)
theorem dX6_held_119 : decode cX6_held 119 = .ok (.goto (-76), 3) := dk_167 255 180 (dk_at dksX6_held_5 3 rfl rfl)
theorem dX6_held_122 : decode cX6_held 122 = .ok (.iinc 4 1, 3) := dk_132 4 1 (dk_at dksX6_held_5 6 rfl rfl)
theorem dX6_held_125 : decode cX6_held 125 = .ok (.goto (-94), 3) := dk_167 255 162 (dk_at dksX6_held_5 9 rfl rfl)
theorem dX6_held_128 : decode cX6_held 128 = .ok (.aload_n 0, 1) := dk_42 (dk_at dksX6_held_5 12 rfl rfl)
theorem dX6_held_129 : decode cX6_held 129 = .ok (.iload_n 1, 1) := dk_27 (dk_at dksX6_held_5 13 rfl rfl)
theorem dX6_held_130 : decode cX6_held 130 = .ok (.iload_n 2, 1) := dk_28 (dk_at dksX6_held_5 14 rfl rfl)
theorem dX6_held_131 : decode cX6_held 131 = .ok (.ifCond .ne 7, 3) := dk_154 0 7 (dk_at dksX6_held_5 15 rfl rfl)
theorem dX6_held_134 : decode cX6_held 134 = .ok (.iconst 2, 1) := dk_5 (dk_at dksX6_held_5 18 rfl rfl)
theorem dX6_held_135 : decode cX6_held 135 = .ok (.goto 4, 3) := dk_167 0 4 (dk_at dksX6_held_5 19 rfl rfl)
theorem dX6_held_138 : decode cX6_held 138 = .ok (.iconst 3, 1) := dk_6 (dk_at dksX6_held_5 22 rfl rfl)
theorem dX6_held_139 : decode cX6_held 139 = .ok (.invokevirtual 101, 3) := dk_182 0 101 (dk_at dksX6_held_6 0 rfl rfl)
theorem dX6_held_142 : decode cX6_held 142 = .ok (.iload_n 3, 1) := dk_29 (dk_at dksX6_held_6 3 rfl rfl)
theorem dX6_held_143 : decode cX6_held 143 = .ok (.isub, 1) := dk_100 (dk_at dksX6_held_6 4 rfl rfl)
theorem dX6_held_144 : decode cX6_held 144 = .ok (.ireturn, 1) := dk_172 (dk_at dksX6_held_6 5 rfl rfl)
abbrev cX6_lend : ByteArray := prog_17_method_88_code
def yX6_lend : MethodName := ⟨RX6, "lend", "(IIII)Z"⟩
def dkwX6_lend_4 : List UInt8 := [27, 16, 7, 21, 4, 182, 1, 2, 42, 28, 16, 7, 21, 4, 116, 182, 1, 2, 4, 172]
abbrev dktX6_lend_4 : List UInt8 := dkwX6_lend_4 ++ []
def dkwX6_lend_3 : List UInt8 := [17, 39, 15, 164, 0, 5, 3, 172, 42, 27, 5, 29, 116, 182, 1, 2, 42, 28, 5, 29, 182, 1, 2, 42]
abbrev dktX6_lend_3 : List UInt8 := dkwX6_lend_3 ++ dktX6_lend_4
def dkwX6_lend_2 : List UInt8 := [154, 0, 5, 3, 172, 42, 27, 5, 182, 0, 101, 29, 161, 0, 17, 42, 28, 5, 182, 0, 101, 29, 96]
abbrev dktX6_lend_2 : List UInt8 := dkwX6_lend_2 ++ dktX6_lend_3
def dkwX6_lend_1 : List UInt8 := [159, 0, 27, 42, 29, 4, 16, 99, 182, 0, 109, 153, 0, 16, 42, 21, 4, 3, 17, 39, 15, 182, 0, 109]
abbrev dktX6_lend_1 : List UInt8 := dkwX6_lend_1 ++ dktX6_lend_2
def dkwX6_lend_0 : List UInt8 := [42, 3, 181, 0, 90, 42, 27, 182, 0, 113, 153, 0, 40, 42, 28, 182, 0, 113, 153, 0, 32, 27, 28]
abbrev dktX6_lend_0 : List UInt8 := dkwX6_lend_0 ++ dktX6_lend_1
theorem dksX6_lend_0 : cX6_lend.data.toList.drop 0 = dktX6_lend_0 := by decide +kernel
theorem dksX6_lend_1 : cX6_lend.data.toList.drop 23 = dktX6_lend_1 := dk_seg dksX6_lend_0 23 rfl rfl
theorem dksX6_lend_2 : cX6_lend.data.toList.drop 47 = dktX6_lend_2 := dk_seg dksX6_lend_1 24 rfl rfl
theorem dksX6_lend_3 : cX6_lend.data.toList.drop 70 = dktX6_lend_3 := dk_seg dksX6_lend_2 23 rfl rfl
theorem dksX6_lend_4 : cX6_lend.data.toList.drop 94 = dktX6_lend_4 := dk_seg dksX6_lend_3 24 rfl rfl
theorem dX6_lend_0 : decode cX6_lend 0 = .ok (.aload_n 0, 1) := dk_42 (dk_at dksX6_lend_0 0 rfl rfl)
theorem dX6_lend_1 : decode cX6_lend 1 = .ok (.iconst 0, 1) := dk_3 (dk_at dksX6_lend_0 1 rfl rfl)
theorem dX6_lend_2 : decode cX6_lend 2 = .ok (.putfield 90, 3) := dk_181 0 90 (dk_at dksX6_lend_0 2 rfl rfl)
theorem dX6_lend_5 : decode cX6_lend 5 = .ok (.aload_n 0, 1) := dk_42 (dk_at dksX6_lend_0 5 rfl rfl)
theorem dX6_lend_6 : decode cX6_lend 6 = .ok (.iload_n 1, 1) := dk_27 (dk_at dksX6_lend_0 6 rfl rfl)
theorem dX6_lend_7 : decode cX6_lend 7 = .ok (.invokevirtual 113, 3) := dk_182 0 113 (dk_at dksX6_lend_0 7 rfl rfl)
theorem dX6_lend_10 : decode cX6_lend 10 = .ok (.ifCond .eq 40, 3) := dk_153 0 40 (dk_at dksX6_lend_0 10 rfl rfl)
theorem dX6_lend_13 : decode cX6_lend 13 = .ok (.aload_n 0, 1) := dk_42 (dk_at dksX6_lend_0 13 rfl rfl)
theorem dX6_lend_14 : decode cX6_lend 14 = .ok (.iload_n 2, 1) := dk_28 (dk_at dksX6_lend_0 14 rfl rfl)
theorem dX6_lend_15 : decode cX6_lend 15 = .ok (.invokevirtual 113, 3) := dk_182 0 113 (dk_at dksX6_lend_0 15 rfl rfl)
theorem dX6_lend_18 : decode cX6_lend 18 = .ok (.ifCond .eq 32, 3) := dk_153 0 32 (dk_at dksX6_lend_0 18 rfl rfl)
theorem dX6_lend_21 : decode cX6_lend 21 = .ok (.iload_n 1, 1) := dk_27 (dk_at dksX6_lend_0 21 rfl rfl)
theorem dX6_lend_22 : decode cX6_lend 22 = .ok (.iload_n 2, 1) := dk_28 (dk_at dksX6_lend_0 22 rfl rfl)
theorem dX6_lend_23 : decode cX6_lend 23 = .ok (.if_icmp .eq 27, 3) := dk_159 0 27 (dk_at dksX6_lend_1 0 rfl rfl)
theorem dX6_lend_26 : decode cX6_lend 26 = .ok (.aload_n 0, 1) := dk_42 (dk_at dksX6_lend_1 3 rfl rfl)
theorem dX6_lend_27 : decode cX6_lend 27 = .ok (.iload_n 3, 1) := dk_29 (dk_at dksX6_lend_1 4 rfl rfl)
theorem dX6_lend_28 : decode cX6_lend 28 = .ok (.iconst 1, 1) := dk_4 (dk_at dksX6_lend_1 5 rfl rfl)
theorem dX6_lend_29 : decode cX6_lend 29 = .ok (.bipush 99, 2) := dk_16 99 (dk_at dksX6_lend_1 6 rfl rfl)
theorem dX6_lend_31 : decode cX6_lend 31 = .ok (.invokevirtual 109, 3) := dk_182 0 109 (dk_at dksX6_lend_1 8 rfl rfl)
theorem dX6_lend_34 : decode cX6_lend 34 = .ok (.ifCond .eq 16, 3) := dk_153 0 16 (dk_at dksX6_lend_1 11 rfl rfl)
theorem dX6_lend_37 : decode cX6_lend 37 = .ok (.aload_n 0, 1) := dk_42 (dk_at dksX6_lend_1 14 rfl rfl)
theorem dX6_lend_38 : decode cX6_lend 38 = .ok (.iload 4, 2) := dk_21 4 (dk_at dksX6_lend_1 15 rfl rfl)
theorem dX6_lend_40 : decode cX6_lend 40 = .ok (.iconst 0, 1) := dk_3 (dk_at dksX6_lend_1 17 rfl rfl)
theorem dX6_lend_41 : decode cX6_lend 41 = .ok (.sipush 9999, 3) := dk_17 39 15 (dk_at dksX6_lend_1 18 rfl rfl)
theorem dX6_lend_44 : decode cX6_lend 44 = .ok (.invokevirtual 109, 3) := dk_182 0 109 (dk_at dksX6_lend_1 21 rfl rfl)
theorem dX6_lend_47 : decode cX6_lend 47 = .ok (.ifCond .ne 5, 3) := dk_154 0 5 (dk_at dksX6_lend_2 0 rfl rfl)
theorem dX6_lend_50 : decode cX6_lend 50 = .ok (.iconst 0, 1) := dk_3 (dk_at dksX6_lend_2 3 rfl rfl)
theorem dX6_lend_51 : decode cX6_lend 51 = .ok (.ireturn, 1) := dk_172 (dk_at dksX6_lend_2 4 rfl rfl)
theorem dX6_lend_52 : decode cX6_lend 52 = .ok (.aload_n 0, 1) := dk_42 (dk_at dksX6_lend_2 5 rfl rfl)
theorem dX6_lend_53 : decode cX6_lend 53 = .ok (.iload_n 1, 1) := dk_27 (dk_at dksX6_lend_2 6 rfl rfl)
theorem dX6_lend_54 : decode cX6_lend 54 = .ok (.iconst 2, 1) := dk_5 (dk_at dksX6_lend_2 7 rfl rfl)
theorem dX6_lend_55 : decode cX6_lend 55 = .ok (.invokevirtual 101, 3) := dk_182 0 101 (dk_at dksX6_lend_2 8 rfl rfl)
theorem dX6_lend_58 : decode cX6_lend 58 = .ok (.iload_n 3, 1) := dk_29 (dk_at dksX6_lend_2 11 rfl rfl)
theorem dX6_lend_59 : decode cX6_lend 59 = .ok (.if_icmp .lt 17, 3) := dk_161 0 17 (dk_at dksX6_lend_2 12 rfl rfl)
theorem dX6_lend_62 : decode cX6_lend 62 = .ok (.aload_n 0, 1) := dk_42 (dk_at dksX6_lend_2 15 rfl rfl)
theorem dX6_lend_63 : decode cX6_lend 63 = .ok (.iload_n 2, 1) := dk_28 (dk_at dksX6_lend_2 16 rfl rfl)
theorem dX6_lend_64 : decode cX6_lend 64 = .ok (.iconst 2, 1) := dk_5 (dk_at dksX6_lend_2 17 rfl rfl)
theorem dX6_lend_65 : decode cX6_lend 65 = .ok (.invokevirtual 101, 3) := dk_182 0 101 (dk_at dksX6_lend_2 18 rfl rfl)
theorem dX6_lend_68 : decode cX6_lend 68 = .ok (.iload_n 3, 1) := dk_29 (dk_at dksX6_lend_2 21 rfl rfl)
theorem dX6_lend_69 : decode cX6_lend 69 = .ok (.iadd, 1) := dk_96 (dk_at dksX6_lend_2 22 rfl rfl)
theorem dX6_lend_70 : decode cX6_lend 70 = .ok (.sipush 9999, 3) := dk_17 39 15 (dk_at dksX6_lend_3 0 rfl rfl)
theorem dX6_lend_73 : decode cX6_lend 73 = .ok (.if_icmp .le 5, 3) := dk_164 0 5 (dk_at dksX6_lend_3 3 rfl rfl)
theorem dX6_lend_76 : decode cX6_lend 76 = .ok (.iconst 0, 1) := dk_3 (dk_at dksX6_lend_3 6 rfl rfl)
theorem dX6_lend_77 : decode cX6_lend 77 = .ok (.ireturn, 1) := dk_172 (dk_at dksX6_lend_3 7 rfl rfl)
theorem dX6_lend_78 : decode cX6_lend 78 = .ok (.aload_n 0, 1) := dk_42 (dk_at dksX6_lend_3 8 rfl rfl)
theorem dX6_lend_79 : decode cX6_lend 79 = .ok (.iload_n 1, 1) := dk_27 (dk_at dksX6_lend_3 9 rfl rfl)
theorem dX6_lend_80 : decode cX6_lend 80 = .ok (.iconst 2, 1) := dk_5 (dk_at dksX6_lend_3 10 rfl rfl)
theorem dX6_lend_81 : decode cX6_lend 81 = .ok (.iload_n 3, 1) := dk_29 (dk_at dksX6_lend_3 11 rfl rfl)
theorem dX6_lend_82 : decode cX6_lend 82 = .ok (.ineg, 1) := dk_116 (dk_at dksX6_lend_3 12 rfl rfl)
theorem dX6_lend_83 : decode cX6_lend 83 = .ok (.invokevirtual 258, 3) := dk_182 1 2 (dk_at dksX6_lend_3 13 rfl rfl)
theorem dX6_lend_86 : decode cX6_lend 86 = .ok (.aload_n 0, 1) := dk_42 (dk_at dksX6_lend_3 16 rfl rfl)
theorem dX6_lend_87 : decode cX6_lend 87 = .ok (.iload_n 2, 1) := dk_28 (dk_at dksX6_lend_3 17 rfl rfl)
theorem dX6_lend_88 : decode cX6_lend 88 = .ok (.iconst 2, 1) := dk_5 (dk_at dksX6_lend_3 18 rfl rfl)
theorem dX6_lend_89 : decode cX6_lend 89 = .ok (.iload_n 3, 1) := dk_29 (dk_at dksX6_lend_3 19 rfl rfl)
theorem dX6_lend_90 : decode cX6_lend 90 = .ok (.invokevirtual 258, 3) := dk_182 1 2 (dk_at dksX6_lend_3 20 rfl rfl)
theorem dX6_lend_93 : decode cX6_lend 93 = .ok (.aload_n 0, 1) := dk_42 (dk_at dksX6_lend_3 23 rfl rfl)
theorem dX6_lend_94 : decode cX6_lend 94 = .ok (.iload_n 1, 1) := dk_27 (dk_at dksX6_lend_4 0 rfl rfl)
theorem dX6_lend_95 : decode cX6_lend 95 = .ok (.bipush 7, 2) := dk_16 7 (dk_at dksX6_lend_4 1 rfl rfl)
theorem dX6_lend_97 : decode cX6_lend 97 = .ok (.iload 4, 2) := dk_21 4 (dk_at dksX6_lend_4 3 rfl rfl)
theorem dX6_lend_99 : decode cX6_lend 99 = .ok (.invokevirtual 258, 3) := dk_182 1 2 (dk_at dksX6_lend_4 5 rfl rfl)
theorem dX6_lend_102 : decode cX6_lend 102 = .ok (.aload_n 0, 1) := dk_42 (dk_at dksX6_lend_4 8 rfl rfl)
theorem dX6_lend_103 : decode cX6_lend 103 = .ok (.iload_n 2, 1) := dk_28 (dk_at dksX6_lend_4 9 rfl rfl)
theorem dX6_lend_104 : decode cX6_lend 104 = .ok (.bipush 7, 2) := dk_16 7 (dk_at dksX6_lend_4 10 rfl rfl)
theorem dX6_lend_106 : decode cX6_lend 106 = .ok (.iload 4, 2) := dk_21 4 (dk_at dksX6_lend_4 12 rfl rfl)
theorem dX6_lend_108 : decode cX6_lend 108 = .ok (.ineg, 1) := dk_116 (dk_at dksX6_lend_4 14 rfl rfl)
theorem dX6_lend_109 : decode cX6_lend 109 = .ok (.invokevirtual 258, 3) := dk_182 1 2 (dk_at dksX6_lend_4 15 rfl rfl)
theorem dX6_lend_112 : decode cX6_lend 112 = .ok (.iconst 1, 1) := dk_4 (dk_at dksX6_lend_4 18 rfl rfl)
theorem dX6_lend_113 : decode cX6_lend 113 = .ok (.ireturn, 1) := dk_172 (dk_at dksX6_lend_4 19 rfl rfl)
abbrev cX6_thought : ByteArray := prog_17_method_93_code
def yX6_thought : MethodName := ⟨RX6, "thought", "(III)I"⟩
def dkwX6_thought_3 : List UInt8 := [28, 29, 182, 1, 145, 167, 0, 5, 18, 239, 172]
abbrev dktX6_thought_3 : List UInt8 := dkwX6_thought_3 ++ []
def dkwX6_thought_2 : List UInt8 := [182, 1, 145, 164, 0, 7, 4, 167, 0, 4, 3, 172, 42, 29, 3, 6, 182, 0, 109, 153, 0, 13, 42, 27]
abbrev dktX6_thought_2 : List UInt8 := dkwX6_thought_2 ++ dktX6_thought_3
def dkwX6_thought_1 : List UInt8 := [154, 0, 6, 18, 239, 172, 28, 2, 160, 0, 26, 42, 27, 4, 3, 182, 1, 145, 42, 27, 3, 3]
abbrev dktX6_thought_1 : List UInt8 := dkwX6_thought_1 ++ dktX6_thought_2
def dkwX6_thought_0 : List UInt8 := [42, 3, 181, 0, 90, 42, 27, 4, 16, 30, 182, 0, 109, 153, 0, 13, 42, 28, 2, 4, 182, 0, 109]
abbrev dktX6_thought_0 : List UInt8 := dkwX6_thought_0 ++ dktX6_thought_1
theorem dksX6_thought_0 : cX6_thought.data.toList.drop 0 = dktX6_thought_0 := by decide +kernel
theorem dksX6_thought_1 : cX6_thought.data.toList.drop 23 = dktX6_thought_1 := dk_seg dksX6_thought_0 23 rfl rfl
theorem dksX6_thought_2 : cX6_thought.data.toList.drop 45 = dktX6_thought_2 := dk_seg dksX6_thought_1 22 rfl rfl
theorem dksX6_thought_3 : cX6_thought.data.toList.drop 69 = dktX6_thought_3 := dk_seg dksX6_thought_2 24 rfl rfl
theorem dX6_thought_0 : decode cX6_thought 0 = .ok (.aload_n 0, 1) := dk_42 (dk_at dksX6_thought_0 0 rfl rfl)
theorem dX6_thought_1 : decode cX6_thought 1 = .ok (.iconst 0, 1) := dk_3 (dk_at dksX6_thought_0 1 rfl rfl)
theorem dX6_thought_2 : decode cX6_thought 2 = .ok (.putfield 90, 3) := dk_181 0 90 (dk_at dksX6_thought_0 2 rfl rfl)
theorem dX6_thought_5 : decode cX6_thought 5 = .ok (.aload_n 0, 1) := dk_42 (dk_at dksX6_thought_0 5 rfl rfl)
theorem dX6_thought_6 : decode cX6_thought 6 = .ok (.iload_n 1, 1) := dk_27 (dk_at dksX6_thought_0 6 rfl rfl)
theorem dX6_thought_7 : decode cX6_thought 7 = .ok (.iconst 1, 1) := dk_4 (dk_at dksX6_thought_0 7 rfl rfl)
theorem dX6_thought_8 : decode cX6_thought 8 = .ok (.bipush 30, 2) := dk_16 30 (dk_at dksX6_thought_0 8 rfl rfl)
theorem dX6_thought_10 : decode cX6_thought 10 = .ok (.invokevirtual 109, 3) := dk_182 0 109 (dk_at dksX6_thought_0 10 rfl rfl)
theorem dX6_thought_13 : decode cX6_thought 13 = .ok (.ifCond .eq 13, 3) := dk_153 0 13 (dk_at dksX6_thought_0 13 rfl rfl)
theorem dX6_thought_16 : decode cX6_thought 16 = .ok (.aload_n 0, 1) := dk_42 (dk_at dksX6_thought_0 16 rfl rfl)
theorem dX6_thought_17 : decode cX6_thought 17 = .ok (.iload_n 2, 1) := dk_28 (dk_at dksX6_thought_0 17 rfl rfl)
theorem dX6_thought_18 : decode cX6_thought 18 = .ok (.iconst (-1), 1) := dk_2 (dk_at dksX6_thought_0 18 rfl rfl)
theorem dX6_thought_19 : decode cX6_thought 19 = .ok (.iconst 1, 1) := dk_4 (dk_at dksX6_thought_0 19 rfl rfl)
theorem dX6_thought_20 : decode cX6_thought 20 = .ok (.invokevirtual 109, 3) := dk_182 0 109 (dk_at dksX6_thought_0 20 rfl rfl)
theorem dX6_thought_23 : decode cX6_thought 23 = .ok (.ifCond .ne 6, 3) := dk_154 0 6 (dk_at dksX6_thought_1 0 rfl rfl)
theorem dX6_thought_26 : decode cX6_thought 26 = .ok (.ldc 239, 2) := dk_18 239 (dk_at dksX6_thought_1 3 rfl rfl)
theorem dX6_thought_28 : decode cX6_thought 28 = .ok (.ireturn, 1) := dk_172 (dk_at dksX6_thought_1 5 rfl rfl)
theorem dX6_thought_29 : decode cX6_thought 29 = .ok (.iload_n 2, 1) := dk_28 (dk_at dksX6_thought_1 6 rfl rfl)
theorem dX6_thought_30 : decode cX6_thought 30 = .ok (.iconst (-1), 1) := dk_2 (dk_at dksX6_thought_1 7 rfl rfl)
theorem dX6_thought_31 : decode cX6_thought 31 = .ok (.if_icmp .ne 26, 3) := dk_160 0 26 (dk_at dksX6_thought_1 8 rfl rfl)
theorem dX6_thought_34 : decode cX6_thought 34 = .ok (.aload_n 0, 1) := dk_42 (dk_at dksX6_thought_1 11 rfl rfl)
theorem dX6_thought_35 : decode cX6_thought 35 = .ok (.iload_n 1, 1) := dk_27 (dk_at dksX6_thought_1 12 rfl rfl)
theorem dX6_thought_36 : decode cX6_thought 36 = .ok (.iconst 1, 1) := dk_4 (dk_at dksX6_thought_1 13 rfl rfl)
theorem dX6_thought_37 : decode cX6_thought 37 = .ok (.iconst 0, 1) := dk_3 (dk_at dksX6_thought_1 14 rfl rfl)
theorem dX6_thought_38 : decode cX6_thought 38 = .ok (.invokevirtual 401, 3) := dk_182 1 145 (dk_at dksX6_thought_1 15 rfl rfl)
theorem dX6_thought_41 : decode cX6_thought 41 = .ok (.aload_n 0, 1) := dk_42 (dk_at dksX6_thought_1 18 rfl rfl)
theorem dX6_thought_42 : decode cX6_thought 42 = .ok (.iload_n 1, 1) := dk_27 (dk_at dksX6_thought_1 19 rfl rfl)
theorem dX6_thought_43 : decode cX6_thought 43 = .ok (.iconst 0, 1) := dk_3 (dk_at dksX6_thought_1 20 rfl rfl)
theorem dX6_thought_44 : decode cX6_thought 44 = .ok (.iconst 0, 1) := dk_3 (dk_at dksX6_thought_1 21 rfl rfl)
theorem dX6_thought_45 : decode cX6_thought 45 = .ok (.invokevirtual 401, 3) := dk_182 1 145 (dk_at dksX6_thought_2 0 rfl rfl)
theorem dX6_thought_48 : decode cX6_thought 48 = .ok (.if_icmp .le 7, 3) := dk_164 0 7 (dk_at dksX6_thought_2 3 rfl rfl)
theorem dX6_thought_51 : decode cX6_thought 51 = .ok (.iconst 1, 1) := dk_4 (dk_at dksX6_thought_2 6 rfl rfl)
theorem dX6_thought_52 : decode cX6_thought 52 = .ok (.goto 4, 3) := dk_167 0 4 (dk_at dksX6_thought_2 7 rfl rfl)
theorem dX6_thought_55 : decode cX6_thought 55 = .ok (.iconst 0, 1) := dk_3 (dk_at dksX6_thought_2 10 rfl rfl)
theorem dX6_thought_56 : decode cX6_thought 56 = .ok (.ireturn, 1) := dk_172 (dk_at dksX6_thought_2 11 rfl rfl)
theorem dX6_thought_57 : decode cX6_thought 57 = .ok (.aload_n 0, 1) := dk_42 (dk_at dksX6_thought_2 12 rfl rfl)
theorem dX6_thought_58 : decode cX6_thought 58 = .ok (.iload_n 3, 1) := dk_29 (dk_at dksX6_thought_2 13 rfl rfl)
theorem dX6_thought_59 : decode cX6_thought 59 = .ok (.iconst 0, 1) := dk_3 (dk_at dksX6_thought_2 14 rfl rfl)
theorem dX6_thought_60 : decode cX6_thought 60 = .ok (.iconst 3, 1) := dk_6 (dk_at dksX6_thought_2 15 rfl rfl)
theorem dX6_thought_61 : decode cX6_thought 61 = .ok (.invokevirtual 109, 3) := dk_182 0 109 (dk_at dksX6_thought_2 16 rfl rfl)
theorem dX6_thought_64 : decode cX6_thought 64 = .ok (.ifCond .eq 13, 3) := dk_153 0 13 (dk_at dksX6_thought_2 19 rfl rfl)
theorem dX6_thought_67 : decode cX6_thought 67 = .ok (.aload_n 0, 1) := dk_42 (dk_at dksX6_thought_2 22 rfl rfl)
theorem dX6_thought_68 : decode cX6_thought 68 = .ok (.iload_n 1, 1) := dk_27 (dk_at dksX6_thought_2 23 rfl rfl)
theorem dX6_thought_69 : decode cX6_thought 69 = .ok (.iload_n 2, 1) := dk_28 (dk_at dksX6_thought_3 0 rfl rfl)
theorem dX6_thought_70 : decode cX6_thought 70 = .ok (.iload_n 3, 1) := dk_29 (dk_at dksX6_thought_3 1 rfl rfl)
theorem dX6_thought_71 : decode cX6_thought 71 = .ok (.invokevirtual 401, 3) := dk_182 1 145 (dk_at dksX6_thought_3 2 rfl rfl)
theorem dX6_thought_74 : decode cX6_thought 74 = .ok (.goto 5, 3) := dk_167 0 5 (dk_at dksX6_thought_3 5 rfl rfl)
theorem dX6_thought_77 : decode cX6_thought 77 = .ok (.ldc 239, 2) := dk_18 239 (dk_at dksX6_thought_3 8 rfl rfl)
theorem dX6_thought_79 : decode cX6_thought 79 = .ok (.ireturn, 1) := dk_172 (dk_at dksX6_thought_3 10 rfl rfl)
abbrev cX6_thinks : ByteArray := prog_17_method_92_code
def yX6_thinks : MethodName := ⟨RX6, "thinks", "(III)I"⟩
def dkwX6_thinks_4 : List UInt8 := [167, 0, 7, 42, 180, 1, 5, 54, 6, 42, 3, 182, 1, 141, 21, 6, 172]
abbrev dktX6_thinks_4 : List UInt8 := dkwX6_thinks_4 ++ []
def dkwX6_thinks_3 : List UInt8 := [160, 0, 13, 42, 180, 1, 8, 21, 5, 100, 167, 0, 19, 29, 5, 160, 0, 10, 42, 180, 0, 252]
abbrev dktX6_thinks_3 : List UInt8 := dkwX6_thinks_3 ++ dktX6_thinks_4
def dkwX6_thinks_2 : List UInt8 := [132, 6, 1, 167, 255, 243, 29, 154, 0, 13, 42, 182, 1, 138, 21, 4, 100, 167, 0, 34, 29, 4]
abbrev dktX6_thinks_2 : List UInt8 := dkwX6_thinks_2 ++ dktX6_thinks_3
def dkwX6_thinks_1 : List UInt8 := [79, 42, 3, 181, 0, 252, 42, 3, 181, 1, 5, 3, 54, 6, 21, 6, 27, 162, 0, 13, 42, 182, 1, 28]
abbrev dktX6_thinks_1 : List UInt8 := dkwX6_thinks_1 ++ dktX6_thinks_2
def dkwX6_thinks_0 : List UInt8 := [42, 182, 1, 138, 54, 4, 42, 180, 1, 8, 54, 5, 42, 4, 182, 1, 141, 42, 180, 0, 13, 16, 9, 28]
abbrev dktX6_thinks_0 : List UInt8 := dkwX6_thinks_0 ++ dktX6_thinks_1
theorem dksX6_thinks_0 : cX6_thinks.data.toList.drop 0 = dktX6_thinks_0 := by decide +kernel
theorem dksX6_thinks_1 : cX6_thinks.data.toList.drop 24 = dktX6_thinks_1 := dk_seg dksX6_thinks_0 24 rfl rfl
theorem dksX6_thinks_2 : cX6_thinks.data.toList.drop 48 = dktX6_thinks_2 := dk_seg dksX6_thinks_1 24 rfl rfl
theorem dksX6_thinks_3 : cX6_thinks.data.toList.drop 70 = dktX6_thinks_3 := dk_seg dksX6_thinks_2 22 rfl rfl
theorem dksX6_thinks_4 : cX6_thinks.data.toList.drop 92 = dktX6_thinks_4 := dk_seg dksX6_thinks_3 22 rfl rfl
theorem dX6_thinks_0 : decode cX6_thinks 0 = .ok (.aload_n 0, 1) := dk_42 (dk_at dksX6_thinks_0 0 rfl rfl)
theorem dX6_thinks_1 : decode cX6_thinks 1 = .ok (.invokevirtual 394, 3) := dk_182 1 138 (dk_at dksX6_thinks_0 1 rfl rfl)
theorem dX6_thinks_4 : decode cX6_thinks 4 = .ok (.istore 4, 2) := dk_54 4 (dk_at dksX6_thinks_0 4 rfl rfl)
theorem dX6_thinks_6 : decode cX6_thinks 6 = .ok (.aload_n 0, 1) := dk_42 (dk_at dksX6_thinks_0 6 rfl rfl)
theorem dX6_thinks_7 : decode cX6_thinks 7 = .ok (.getfield 264, 3) := dk_180 1 8 (dk_at dksX6_thinks_0 7 rfl rfl)
theorem dX6_thinks_10 : decode cX6_thinks 10 = .ok (.istore 5, 2) := dk_54 5 (dk_at dksX6_thinks_0 10 rfl rfl)
theorem dX6_thinks_12 : decode cX6_thinks 12 = .ok (.aload_n 0, 1) := dk_42 (dk_at dksX6_thinks_0 12 rfl rfl)
theorem dX6_thinks_13 : decode cX6_thinks 13 = .ok (.iconst 1, 1) := dk_4 (dk_at dksX6_thinks_0 13 rfl rfl)
theorem dX6_thinks_14 : decode cX6_thinks 14 = .ok (.invokevirtual 397, 3) := dk_182 1 141 (dk_at dksX6_thinks_0 14 rfl rfl)
theorem dX6_thinks_17 : decode cX6_thinks 17 = .ok (.aload_n 0, 1) := dk_42 (dk_at dksX6_thinks_0 17 rfl rfl)
theorem dX6_thinks_18 : decode cX6_thinks 18 = .ok (.getfield 13, 3) := dk_180 0 13 (dk_at dksX6_thinks_0 18 rfl rfl)
theorem dX6_thinks_21 : decode cX6_thinks 21 = .ok (.bipush 9, 2) := dk_16 9 (dk_at dksX6_thinks_0 21 rfl rfl)
theorem dX6_thinks_23 : decode cX6_thinks 23 = .ok (.iload_n 2, 1) := dk_28 (dk_at dksX6_thinks_0 23 rfl rfl)
theorem dX6_thinks_24 : decode cX6_thinks 24 = .ok (.iastore, 1) := dk_79 (dk_at dksX6_thinks_1 0 rfl rfl)
theorem dX6_thinks_25 : decode cX6_thinks 25 = .ok (.aload_n 0, 1) := dk_42 (dk_at dksX6_thinks_1 1 rfl rfl)
theorem dX6_thinks_26 : decode cX6_thinks 26 = .ok (.iconst 0, 1) := dk_3 (dk_at dksX6_thinks_1 2 rfl rfl)
theorem dX6_thinks_27 : decode cX6_thinks 27 = .ok (.putfield 252, 3) := dk_181 0 252 (dk_at dksX6_thinks_1 3 rfl rfl)
theorem dX6_thinks_30 : decode cX6_thinks 30 = .ok (.aload_n 0, 1) := dk_42 (dk_at dksX6_thinks_1 6 rfl rfl)
theorem dX6_thinks_31 : decode cX6_thinks 31 = .ok (.iconst 0, 1) := dk_3 (dk_at dksX6_thinks_1 7 rfl rfl)
theorem dX6_thinks_32 : decode cX6_thinks 32 = .ok (.putfield 261, 3) := dk_181 1 5 (dk_at dksX6_thinks_1 8 rfl rfl)
theorem dX6_thinks_35 : decode cX6_thinks 35 = .ok (.iconst 0, 1) := dk_3 (dk_at dksX6_thinks_1 11 rfl rfl)
theorem dX6_thinks_36 : decode cX6_thinks 36 = .ok (.istore 6, 2) := dk_54 6 (dk_at dksX6_thinks_1 12 rfl rfl)
theorem dX6_thinks_38 : decode cX6_thinks 38 = .ok (.iload 6, 2) := dk_21 6 (dk_at dksX6_thinks_1 14 rfl rfl)
theorem dX6_thinks_40 : decode cX6_thinks 40 = .ok (.iload_n 1, 1) := dk_27 (dk_at dksX6_thinks_1 16 rfl rfl)
theorem dX6_thinks_41 : decode cX6_thinks 41 = .ok (.if_icmp .ge 13, 3) := dk_162 0 13 (dk_at dksX6_thinks_1 17 rfl rfl)
theorem dX6_thinks_44 : decode cX6_thinks 44 = .ok (.aload_n 0, 1) := dk_42 (dk_at dksX6_thinks_1 20 rfl rfl)
theorem dX6_thinks_45 : decode cX6_thinks 45 = .ok (.invokevirtual 284, 3) := dk_182 1 28 (dk_at dksX6_thinks_1 21 rfl rfl)
theorem dX6_thinks_48 : decode cX6_thinks 48 = .ok (.iinc 6 1, 3) := dk_132 6 1 (dk_at dksX6_thinks_2 0 rfl rfl)
theorem dX6_thinks_51 : decode cX6_thinks 51 = .ok (.goto (-13), 3) := dk_167 255 243 (dk_at dksX6_thinks_2 3 rfl rfl)
theorem dX6_thinks_54 : decode cX6_thinks 54 = .ok (.iload_n 3, 1) := dk_29 (dk_at dksX6_thinks_2 6 rfl rfl)
theorem dX6_thinks_55 : decode cX6_thinks 55 = .ok (.ifCond .ne 13, 3) := dk_154 0 13 (dk_at dksX6_thinks_2 7 rfl rfl)
theorem dX6_thinks_58 : decode cX6_thinks 58 = .ok (.aload_n 0, 1) := dk_42 (dk_at dksX6_thinks_2 10 rfl rfl)
theorem dX6_thinks_59 : decode cX6_thinks 59 = .ok (.invokevirtual 394, 3) := dk_182 1 138 (dk_at dksX6_thinks_2 11 rfl rfl)
theorem dX6_thinks_62 : decode cX6_thinks 62 = .ok (.iload 4, 2) := dk_21 4 (dk_at dksX6_thinks_2 14 rfl rfl)
theorem dX6_thinks_64 : decode cX6_thinks 64 = .ok (.isub, 1) := dk_100 (dk_at dksX6_thinks_2 16 rfl rfl)
theorem dX6_thinks_65 : decode cX6_thinks 65 = .ok (.goto 34, 3) := dk_167 0 34 (dk_at dksX6_thinks_2 17 rfl rfl)
theorem dX6_thinks_68 : decode cX6_thinks 68 = .ok (.iload_n 3, 1) := dk_29 (dk_at dksX6_thinks_2 20 rfl rfl)
theorem dX6_thinks_69 : decode cX6_thinks 69 = .ok (.iconst 1, 1) := dk_4 (dk_at dksX6_thinks_2 21 rfl rfl)
theorem dX6_thinks_70 : decode cX6_thinks 70 = .ok (.if_icmp .ne 13, 3) := dk_160 0 13 (dk_at dksX6_thinks_3 0 rfl rfl)
theorem dX6_thinks_73 : decode cX6_thinks 73 = .ok (.aload_n 0, 1) := dk_42 (dk_at dksX6_thinks_3 3 rfl rfl)
theorem dX6_thinks_74 : decode cX6_thinks 74 = .ok (.getfield 264, 3) := dk_180 1 8 (dk_at dksX6_thinks_3 4 rfl rfl)
theorem dX6_thinks_77 : decode cX6_thinks 77 = .ok (.iload 5, 2) := dk_21 5 (dk_at dksX6_thinks_3 7 rfl rfl)
theorem dX6_thinks_79 : decode cX6_thinks 79 = .ok (.isub, 1) := dk_100 (dk_at dksX6_thinks_3 9 rfl rfl)
theorem dX6_thinks_80 : decode cX6_thinks 80 = .ok (.goto 19, 3) := dk_167 0 19 (dk_at dksX6_thinks_3 10 rfl rfl)
theorem dX6_thinks_83 : decode cX6_thinks 83 = .ok (.iload_n 3, 1) := dk_29 (dk_at dksX6_thinks_3 13 rfl rfl)
theorem dX6_thinks_84 : decode cX6_thinks 84 = .ok (.iconst 2, 1) := dk_5 (dk_at dksX6_thinks_3 14 rfl rfl)
theorem dX6_thinks_85 : decode cX6_thinks 85 = .ok (.if_icmp .ne 10, 3) := dk_160 0 10 (dk_at dksX6_thinks_3 15 rfl rfl)
theorem dX6_thinks_88 : decode cX6_thinks 88 = .ok (.aload_n 0, 1) := dk_42 (dk_at dksX6_thinks_3 18 rfl rfl)
theorem dX6_thinks_89 : decode cX6_thinks 89 = .ok (.getfield 252, 3) := dk_180 0 252 (dk_at dksX6_thinks_3 19 rfl rfl)
theorem dX6_thinks_92 : decode cX6_thinks 92 = .ok (.goto 7, 3) := dk_167 0 7 (dk_at dksX6_thinks_4 0 rfl rfl)
theorem dX6_thinks_95 : decode cX6_thinks 95 = .ok (.aload_n 0, 1) := dk_42 (dk_at dksX6_thinks_4 3 rfl rfl)
theorem dX6_thinks_96 : decode cX6_thinks 96 = .ok (.getfield 261, 3) := dk_180 1 5 (dk_at dksX6_thinks_4 4 rfl rfl)
theorem dX6_thinks_99 : decode cX6_thinks 99 = .ok (.istore 6, 2) := dk_54 6 (dk_at dksX6_thinks_4 7 rfl rfl)
theorem dX6_thinks_101 : decode cX6_thinks 101 = .ok (.aload_n 0, 1) := dk_42 (dk_at dksX6_thinks_4 9 rfl rfl)
theorem dX6_thinks_102 : decode cX6_thinks 102 = .ok (.iconst 0, 1) := dk_3 (dk_at dksX6_thinks_4 10 rfl rfl)
theorem dX6_thinks_103 : decode cX6_thinks 103 = .ok (.invokevirtual 397, 3) := dk_182 1 141 (dk_at dksX6_thinks_4 11 rfl rfl)
theorem dX6_thinks_106 : decode cX6_thinks 106 = .ok (.iload 6, 2) := dk_21 6 (dk_at dksX6_thinks_4 14 rfl rfl)
theorem dX6_thinks_108 : decode cX6_thinks 108 = .ok (.ireturn, 1) := dk_172 (dk_at dksX6_thinks_4 16 rfl rfl)
abbrev cX6_purses : ByteArray := prog_17_method_91_code
def yX6_purses : MethodName := ⟨RX6, "purses", "()I"⟩
def dkwX6_purses_1 : List UInt8 := [132, 2, 1, 167, 255, 235, 27, 172]
abbrev dktX6_purses_1 : List UInt8 := dkwX6_purses_1 ++ []
def dkwX6_purses_0 : List UInt8 := [3, 60, 3, 61, 28, 42, 180, 0, 98, 162, 0, 19, 27, 42, 28, 16, 7, 182, 0, 101, 96, 60]
abbrev dktX6_purses_0 : List UInt8 := dkwX6_purses_0 ++ dktX6_purses_1
theorem dksX6_purses_0 : cX6_purses.data.toList.drop 0 = dktX6_purses_0 := by decide +kernel
theorem dksX6_purses_1 : cX6_purses.data.toList.drop 22 = dktX6_purses_1 := dk_seg dksX6_purses_0 22 rfl rfl
theorem dX6_purses_0 : decode cX6_purses 0 = .ok (.iconst 0, 1) := dk_3 (dk_at dksX6_purses_0 0 rfl rfl)
theorem dX6_purses_1 : decode cX6_purses 1 = .ok (.istore_n 1, 1) := dk_60 (dk_at dksX6_purses_0 1 rfl rfl)
theorem dX6_purses_2 : decode cX6_purses 2 = .ok (.iconst 0, 1) := dk_3 (dk_at dksX6_purses_0 2 rfl rfl)
theorem dX6_purses_3 : decode cX6_purses 3 = .ok (.istore_n 2, 1) := dk_61 (dk_at dksX6_purses_0 3 rfl rfl)
theorem dX6_purses_4 : decode cX6_purses 4 = .ok (.iload_n 2, 1) := dk_28 (dk_at dksX6_purses_0 4 rfl rfl)
theorem dX6_purses_5 : decode cX6_purses 5 = .ok (.aload_n 0, 1) := dk_42 (dk_at dksX6_purses_0 5 rfl rfl)
theorem dX6_purses_6 : decode cX6_purses 6 = .ok (.getfield 98, 3) := dk_180 0 98 (dk_at dksX6_purses_0 6 rfl rfl)
theorem dX6_purses_9 : decode cX6_purses 9 = .ok (.if_icmp .ge 19, 3) := dk_162 0 19 (dk_at dksX6_purses_0 9 rfl rfl)
theorem dX6_purses_12 : decode cX6_purses 12 = .ok (.iload_n 1, 1) := dk_27 (dk_at dksX6_purses_0 12 rfl rfl)
theorem dX6_purses_13 : decode cX6_purses 13 = .ok (.aload_n 0, 1) := dk_42 (dk_at dksX6_purses_0 13 rfl rfl)
theorem dX6_purses_14 : decode cX6_purses 14 = .ok (.iload_n 2, 1) := dk_28 (dk_at dksX6_purses_0 14 rfl rfl)
theorem dX6_purses_15 : decode cX6_purses 15 = .ok (.bipush 7, 2) := dk_16 7 (dk_at dksX6_purses_0 15 rfl rfl)
theorem dX6_purses_17 : decode cX6_purses 17 = .ok (.invokevirtual 101, 3) := dk_182 0 101 (dk_at dksX6_purses_0 17 rfl rfl)
theorem dX6_purses_20 : decode cX6_purses 20 = .ok (.iadd, 1) := dk_96 (dk_at dksX6_purses_0 20 rfl rfl)
theorem dX6_purses_21 : decode cX6_purses 21 = .ok (.istore_n 1, 1) := dk_60 (dk_at dksX6_purses_0 21 rfl rfl)
theorem dX6_purses_22 : decode cX6_purses 22 = .ok (.iinc 2 1, 3) := dk_132 2 1 (dk_at dksX6_purses_1 0 rfl rfl)
theorem dX6_purses_25 : decode cX6_purses 25 = .ok (.goto (-21), 3) := dk_167 255 235 (dk_at dksX6_purses_1 3 rfl rfl)
theorem dX6_purses_28 : decode cX6_purses 28 = .ok (.iload_n 1, 1) := dk_27 (dk_at dksX6_purses_1 6 rfl rfl)
theorem dX6_purses_29 : decode cX6_purses 29 = .ok (.ireturn, 1) := dk_172 (dk_at dksX6_purses_1 7 rfl rfl)
abbrev cX6_asides : ByteArray := prog_17_method_90_code
def yX6_asides : MethodName := ⟨RX6, "asides", "(Z)V"⟩
def dkwX6_asides_6 : List UInt8 := [132, 2, 1, 167, 255, 230, 177]
abbrev dktX6_asides_6 : List UInt8 := dkwX6_asides_6 ++ []
def dkwX6_asides_5 : List UInt8 := [28, 17, 9, 96, 162, 0, 25, 42, 180, 0, 16, 28, 42, 42, 180, 0, 16, 28, 46, 182, 1, 135, 79]
abbrev dktX6_asides_5 : List UInt8 := dkwX6_asides_5 ++ dktX6_asides_6
def dkwX6_asides_4 : List UInt8 := [42, 180, 0, 7, 28, 42, 42, 180, 0, 7, 28, 46, 182, 1, 135, 79, 132, 2, 1, 167, 255, 231, 3, 61]
abbrev dktX6_asides_4 : List UInt8 := dkwX6_asides_4 ++ dktX6_asides_5
def dkwX6_asides_3 : List UInt8 := [42, 180, 0, 13, 28, 46, 182, 1, 135, 79, 132, 2, 1, 167, 255, 231, 3, 61, 28, 16, 108, 162, 0, 25]
abbrev dktX6_asides_3 : List UInt8 := dkwX6_asides_3 ++ dktX6_asides_4
def dkwX6_asides_2 : List UInt8 := [42, 180, 1, 8, 182, 1, 135, 181, 1, 8, 3, 61, 28, 16, 23, 162, 0, 25, 42, 180, 0, 13, 28, 42]
abbrev dktX6_asides_2 : List UInt8 := dkwX6_asides_2 ++ dktX6_asides_3
def dkwX6_asides_1 : List UInt8 := [42, 180, 0, 98, 182, 1, 135, 181, 0, 98, 42, 42, 42, 180, 0, 222, 182, 1, 135, 181, 0, 222, 42, 42]
abbrev dktX6_asides_1 : List UInt8 := dkwX6_asides_1 ++ dktX6_asides_2
def dkwX6_asides_0 : List UInt8 := [42, 27, 181, 1, 132, 42, 3, 181, 1, 129, 42, 42, 42, 180, 0, 93, 182, 1, 135, 181, 0, 93, 42, 42]
abbrev dktX6_asides_0 : List UInt8 := dkwX6_asides_0 ++ dktX6_asides_1
theorem dksX6_asides_0 : cX6_asides.data.toList.drop 0 = dktX6_asides_0 := by decide +kernel
theorem dksX6_asides_1 : cX6_asides.data.toList.drop 24 = dktX6_asides_1 := dk_seg dksX6_asides_0 24 rfl rfl
theorem dksX6_asides_2 : cX6_asides.data.toList.drop 48 = dktX6_asides_2 := dk_seg dksX6_asides_1 24 rfl rfl
theorem dksX6_asides_3 : cX6_asides.data.toList.drop 72 = dktX6_asides_3 := dk_seg dksX6_asides_2 24 rfl rfl
theorem dksX6_asides_4 : cX6_asides.data.toList.drop 96 = dktX6_asides_4 := dk_seg dksX6_asides_3 24 rfl rfl
theorem dksX6_asides_5 : cX6_asides.data.toList.drop 120 = dktX6_asides_5 := dk_seg dksX6_asides_4 24 rfl rfl
theorem dksX6_asides_6 : cX6_asides.data.toList.drop 143 = dktX6_asides_6 := dk_seg dksX6_asides_5 23 rfl rfl
theorem dX6_asides_0 : decode cX6_asides 0 = .ok (.aload_n 0, 1) := dk_42 (dk_at dksX6_asides_0 0 rfl rfl)
theorem dX6_asides_1 : decode cX6_asides 1 = .ok (.iload_n 1, 1) := dk_27 (dk_at dksX6_asides_0 1 rfl rfl)
theorem dX6_asides_2 : decode cX6_asides 2 = .ok (.putfield 388, 3) := dk_181 1 132 (dk_at dksX6_asides_0 2 rfl rfl)
theorem dX6_asides_5 : decode cX6_asides 5 = .ok (.aload_n 0, 1) := dk_42 (dk_at dksX6_asides_0 5 rfl rfl)
theorem dX6_asides_6 : decode cX6_asides 6 = .ok (.iconst 0, 1) := dk_3 (dk_at dksX6_asides_0 6 rfl rfl)
theorem dX6_asides_7 : decode cX6_asides 7 = .ok (.putfield 385, 3) := dk_181 1 129 (dk_at dksX6_asides_0 7 rfl rfl)
theorem dX6_asides_10 : decode cX6_asides 10 = .ok (.aload_n 0, 1) := dk_42 (dk_at dksX6_asides_0 10 rfl rfl)
theorem dX6_asides_11 : decode cX6_asides 11 = .ok (.aload_n 0, 1) := dk_42 (dk_at dksX6_asides_0 11 rfl rfl)
theorem dX6_asides_12 : decode cX6_asides 12 = .ok (.aload_n 0, 1) := dk_42 (dk_at dksX6_asides_0 12 rfl rfl)
theorem dX6_asides_13 : decode cX6_asides 13 = .ok (.getfield 93, 3) := dk_180 0 93 (dk_at dksX6_asides_0 13 rfl rfl)
theorem dX6_asides_16 : decode cX6_asides 16 = .ok (.invokevirtual 391, 3) := dk_182 1 135 (dk_at dksX6_asides_0 16 rfl rfl)
theorem dX6_asides_19 : decode cX6_asides 19 = .ok (.putfield 93, 3) := dk_181 0 93 (dk_at dksX6_asides_0 19 rfl rfl)
theorem dX6_asides_22 : decode cX6_asides 22 = .ok (.aload_n 0, 1) := dk_42 (dk_at dksX6_asides_0 22 rfl rfl)
theorem dX6_asides_23 : decode cX6_asides 23 = .ok (.aload_n 0, 1) := dk_42 (dk_at dksX6_asides_0 23 rfl rfl)
theorem dX6_asides_24 : decode cX6_asides 24 = .ok (.aload_n 0, 1) := dk_42 (dk_at dksX6_asides_1 0 rfl rfl)
theorem dX6_asides_25 : decode cX6_asides 25 = .ok (.getfield 98, 3) := dk_180 0 98 (dk_at dksX6_asides_1 1 rfl rfl)
theorem dX6_asides_28 : decode cX6_asides 28 = .ok (.invokevirtual 391, 3) := dk_182 1 135 (dk_at dksX6_asides_1 4 rfl rfl)
theorem dX6_asides_31 : decode cX6_asides 31 = .ok (.putfield 98, 3) := dk_181 0 98 (dk_at dksX6_asides_1 7 rfl rfl)
theorem dX6_asides_34 : decode cX6_asides 34 = .ok (.aload_n 0, 1) := dk_42 (dk_at dksX6_asides_1 10 rfl rfl)
theorem dX6_asides_35 : decode cX6_asides 35 = .ok (.aload_n 0, 1) := dk_42 (dk_at dksX6_asides_1 11 rfl rfl)
theorem dX6_asides_36 : decode cX6_asides 36 = .ok (.aload_n 0, 1) := dk_42 (dk_at dksX6_asides_1 12 rfl rfl)
theorem dX6_asides_37 : decode cX6_asides 37 = .ok (.getfield 222, 3) := dk_180 0 222 (dk_at dksX6_asides_1 13 rfl rfl)
theorem dX6_asides_40 : decode cX6_asides 40 = .ok (.invokevirtual 391, 3) := dk_182 1 135 (dk_at dksX6_asides_1 16 rfl rfl)
theorem dX6_asides_43 : decode cX6_asides 43 = .ok (.putfield 222, 3) := dk_181 0 222 (dk_at dksX6_asides_1 19 rfl rfl)
theorem dX6_asides_46 : decode cX6_asides 46 = .ok (.aload_n 0, 1) := dk_42 (dk_at dksX6_asides_1 22 rfl rfl)
theorem dX6_asides_47 : decode cX6_asides 47 = .ok (.aload_n 0, 1) := dk_42 (dk_at dksX6_asides_1 23 rfl rfl)
theorem dX6_asides_48 : decode cX6_asides 48 = .ok (.aload_n 0, 1) := dk_42 (dk_at dksX6_asides_2 0 rfl rfl)
theorem dX6_asides_49 : decode cX6_asides 49 = .ok (.getfield 264, 3) := dk_180 1 8 (dk_at dksX6_asides_2 1 rfl rfl)
theorem dX6_asides_52 : decode cX6_asides 52 = .ok (.invokevirtual 391, 3) := dk_182 1 135 (dk_at dksX6_asides_2 4 rfl rfl)
theorem dX6_asides_55 : decode cX6_asides 55 = .ok (.putfield 264, 3) := dk_181 1 8 (dk_at dksX6_asides_2 7 rfl rfl)
theorem dX6_asides_58 : decode cX6_asides 58 = .ok (.iconst 0, 1) := dk_3 (dk_at dksX6_asides_2 10 rfl rfl)
theorem dX6_asides_59 : decode cX6_asides 59 = .ok (.istore_n 2, 1) := dk_61 (dk_at dksX6_asides_2 11 rfl rfl)
theorem dX6_asides_60 : decode cX6_asides 60 = .ok (.iload_n 2, 1) := dk_28 (dk_at dksX6_asides_2 12 rfl rfl)
theorem dX6_asides_61 : decode cX6_asides 61 = .ok (.bipush 23, 2) := dk_16 23 (dk_at dksX6_asides_2 13 rfl rfl)
theorem dX6_asides_63 : decode cX6_asides 63 = .ok (.if_icmp .ge 25, 3) := dk_162 0 25 (dk_at dksX6_asides_2 15 rfl rfl)
theorem dX6_asides_66 : decode cX6_asides 66 = .ok (.aload_n 0, 1) := dk_42 (dk_at dksX6_asides_2 18 rfl rfl)
theorem dX6_asides_67 : decode cX6_asides 67 = .ok (.getfield 13, 3) := dk_180 0 13 (dk_at dksX6_asides_2 19 rfl rfl)
theorem dX6_asides_70 : decode cX6_asides 70 = .ok (.iload_n 2, 1) := dk_28 (dk_at dksX6_asides_2 22 rfl rfl)
theorem dX6_asides_71 : decode cX6_asides 71 = .ok (.aload_n 0, 1) := dk_42 (dk_at dksX6_asides_2 23 rfl rfl)
theorem dX6_asides_72 : decode cX6_asides 72 = .ok (.aload_n 0, 1) := dk_42 (dk_at dksX6_asides_3 0 rfl rfl)
theorem dX6_asides_73 : decode cX6_asides 73 = .ok (.getfield 13, 3) := dk_180 0 13 (dk_at dksX6_asides_3 1 rfl rfl)
theorem dX6_asides_76 : decode cX6_asides 76 = .ok (.iload_n 2, 1) := dk_28 (dk_at dksX6_asides_3 4 rfl rfl)
theorem dX6_asides_77 : decode cX6_asides 77 = .ok (.iaload, 1) := dk_46 (dk_at dksX6_asides_3 5 rfl rfl)
theorem dX6_asides_78 : decode cX6_asides 78 = .ok (.invokevirtual 391, 3) := dk_182 1 135 (dk_at dksX6_asides_3 6 rfl rfl)
theorem dX6_asides_81 : decode cX6_asides 81 = .ok (.iastore, 1) := dk_79 (dk_at dksX6_asides_3 9 rfl rfl)
theorem dX6_asides_82 : decode cX6_asides 82 = .ok (.iinc 2 1, 3) := dk_132 2 1 (dk_at dksX6_asides_3 10 rfl rfl)
theorem dX6_asides_85 : decode cX6_asides 85 = .ok (.goto (-25), 3) := dk_167 255 231 (dk_at dksX6_asides_3 13 rfl rfl)
theorem dX6_asides_88 : decode cX6_asides 88 = .ok (.iconst 0, 1) := dk_3 (dk_at dksX6_asides_3 16 rfl rfl)
theorem dX6_asides_89 : decode cX6_asides 89 = .ok (.istore_n 2, 1) := dk_61 (dk_at dksX6_asides_3 17 rfl rfl)
theorem dX6_asides_90 : decode cX6_asides 90 = .ok (.iload_n 2, 1) := dk_28 (dk_at dksX6_asides_3 18 rfl rfl)
theorem dX6_asides_91 : decode cX6_asides 91 = .ok (.bipush 108, 2) := dk_16 108 (dk_at dksX6_asides_3 19 rfl rfl)
theorem dX6_asides_93 : decode cX6_asides 93 = .ok (.if_icmp .ge 25, 3) := dk_162 0 25 (dk_at dksX6_asides_3 21 rfl rfl)
theorem dX6_asides_96 : decode cX6_asides 96 = .ok (.aload_n 0, 1) := dk_42 (dk_at dksX6_asides_4 0 rfl rfl)
theorem dX6_asides_97 : decode cX6_asides 97 = .ok (.getfield 7, 3) := dk_180 0 7 (dk_at dksX6_asides_4 1 rfl rfl)
theorem dX6_asides_100 : decode cX6_asides 100 = .ok (.iload_n 2, 1) := dk_28 (dk_at dksX6_asides_4 4 rfl rfl)
theorem dX6_asides_101 : decode cX6_asides 101 = .ok (.aload_n 0, 1) := dk_42 (dk_at dksX6_asides_4 5 rfl rfl)
theorem dX6_asides_102 : decode cX6_asides 102 = .ok (.aload_n 0, 1) := dk_42 (dk_at dksX6_asides_4 6 rfl rfl)
theorem dX6_asides_103 : decode cX6_asides 103 = .ok (.getfield 7, 3) := dk_180 0 7 (dk_at dksX6_asides_4 7 rfl rfl)
theorem dX6_asides_106 : decode cX6_asides 106 = .ok (.iload_n 2, 1) := dk_28 (dk_at dksX6_asides_4 10 rfl rfl)
theorem dX6_asides_107 : decode cX6_asides 107 = .ok (.iaload, 1) := dk_46 (dk_at dksX6_asides_4 11 rfl rfl)
theorem dX6_asides_108 : decode cX6_asides 108 = .ok (.invokevirtual 391, 3) := dk_182 1 135 (dk_at dksX6_asides_4 12 rfl rfl)
theorem dX6_asides_111 : decode cX6_asides 111 = .ok (.iastore, 1) := dk_79 (dk_at dksX6_asides_4 15 rfl rfl)
theorem dX6_asides_112 : decode cX6_asides 112 = .ok (.iinc 2 1, 3) := dk_132 2 1 (dk_at dksX6_asides_4 16 rfl rfl)
theorem dX6_asides_115 : decode cX6_asides 115 = .ok (.goto (-25), 3) := dk_167 255 231 (dk_at dksX6_asides_4 19 rfl rfl)
theorem dX6_asides_118 : decode cX6_asides 118 = .ok (.iconst 0, 1) := dk_3 (dk_at dksX6_asides_4 22 rfl rfl)
theorem dX6_asides_119 : decode cX6_asides 119 = .ok (.istore_n 2, 1) := dk_61 (dk_at dksX6_asides_4 23 rfl rfl)
theorem dX6_asides_120 : decode cX6_asides 120 = .ok (.iload_n 2, 1) := dk_28 (dk_at dksX6_asides_5 0 rfl rfl)
theorem dX6_asides_121 : decode cX6_asides 121 = .ok (.sipush 2400, 3) := dk_17 9 96 (dk_at dksX6_asides_5 1 rfl rfl)
theorem dX6_asides_124 : decode cX6_asides 124 = .ok (.if_icmp .ge 25, 3) := dk_162 0 25 (dk_at dksX6_asides_5 4 rfl rfl)
theorem dX6_asides_127 : decode cX6_asides 127 = .ok (.aload_n 0, 1) := dk_42 (dk_at dksX6_asides_5 7 rfl rfl)
theorem dX6_asides_128 : decode cX6_asides 128 = .ok (.getfield 16, 3) := dk_180 0 16 (dk_at dksX6_asides_5 8 rfl rfl)
theorem dX6_asides_131 : decode cX6_asides 131 = .ok (.iload_n 2, 1) := dk_28 (dk_at dksX6_asides_5 11 rfl rfl)
theorem dX6_asides_132 : decode cX6_asides 132 = .ok (.aload_n 0, 1) := dk_42 (dk_at dksX6_asides_5 12 rfl rfl)
theorem dX6_asides_133 : decode cX6_asides 133 = .ok (.aload_n 0, 1) := dk_42 (dk_at dksX6_asides_5 13 rfl rfl)
theorem dX6_asides_134 : decode cX6_asides 134 = .ok (.getfield 16, 3) := dk_180 0 16 (dk_at dksX6_asides_5 14 rfl rfl)
theorem dX6_asides_137 : decode cX6_asides 137 = .ok (.iload_n 2, 1) := dk_28 (dk_at dksX6_asides_5 17 rfl rfl)
theorem dX6_asides_138 : decode cX6_asides 138 = .ok (.iaload, 1) := dk_46 (dk_at dksX6_asides_5 18 rfl rfl)
theorem dX6_asides_139 : decode cX6_asides 139 = .ok (.invokevirtual 391, 3) := dk_182 1 135 (dk_at dksX6_asides_5 19 rfl rfl)
theorem dX6_asides_142 : decode cX6_asides 142 = .ok (.iastore, 1) := dk_79 (dk_at dksX6_asides_5 22 rfl rfl)
theorem dX6_asides_143 : decode cX6_asides 143 = .ok (.iinc 2 1, 3) := dk_132 2 1 (dk_at dksX6_asides_6 0 rfl rfl)
theorem dX6_asides_146 : decode cX6_asides 146 = .ok (.goto (-26), 3) := dk_167 255 230 (dk_at dksX6_asides_6 3 rfl rfl)
theorem dX6_asides_149 : decode cX6_asides 149 = .ok (.return_, 1) := dk_177 (dk_at dksX6_asides_6 6 rfl rfl)
abbrev cX6_putAside : ByteArray := prog_17_method_89_code
def yX6_putAside : MethodName := ⟨RX6, "putAside", "(I)I"⟩
def dkwX6_putAside_1 : List UInt8 := [180, 1, 129, 4, 100, 46, 172, 42, 180, 0, 81, 42, 180, 1, 129, 4, 100, 27, 79, 27, 172]
abbrev dktX6_putAside_1 : List UInt8 := dkwX6_putAside_1 ++ []
def dkwX6_putAside_0 : List UInt8 := [42, 42, 180, 1, 129, 4, 96, 181, 1, 129, 42, 180, 1, 132, 154, 0, 15, 42, 180, 0, 81, 42]
abbrev dktX6_putAside_0 : List UInt8 := dkwX6_putAside_0 ++ dktX6_putAside_1
theorem dksX6_putAside_0 : cX6_putAside.data.toList.drop 0 = dktX6_putAside_0 := by decide +kernel
theorem dksX6_putAside_1 : cX6_putAside.data.toList.drop 22 = dktX6_putAside_1 := dk_seg dksX6_putAside_0 22 rfl rfl
theorem dX6_putAside_0 : decode cX6_putAside 0 = .ok (.aload_n 0, 1) := dk_42 (dk_at dksX6_putAside_0 0 rfl rfl)
theorem dX6_putAside_1 : decode cX6_putAside 1 = .ok (.aload_n 0, 1) := dk_42 (dk_at dksX6_putAside_0 1 rfl rfl)
theorem dX6_putAside_2 : decode cX6_putAside 2 = .ok (.getfield 385, 3) := dk_180 1 129 (dk_at dksX6_putAside_0 2 rfl rfl)
theorem dX6_putAside_5 : decode cX6_putAside 5 = .ok (.iconst 1, 1) := dk_4 (dk_at dksX6_putAside_0 5 rfl rfl)
theorem dX6_putAside_6 : decode cX6_putAside 6 = .ok (.iadd, 1) := dk_96 (dk_at dksX6_putAside_0 6 rfl rfl)
theorem dX6_putAside_7 : decode cX6_putAside 7 = .ok (.putfield 385, 3) := dk_181 1 129 (dk_at dksX6_putAside_0 7 rfl rfl)
theorem dX6_putAside_10 : decode cX6_putAside 10 = .ok (.aload_n 0, 1) := dk_42 (dk_at dksX6_putAside_0 10 rfl rfl)
theorem dX6_putAside_11 : decode cX6_putAside 11 = .ok (.getfield 388, 3) := dk_180 1 132 (dk_at dksX6_putAside_0 11 rfl rfl)
theorem dX6_putAside_14 : decode cX6_putAside 14 = .ok (.ifCond .ne 15, 3) := dk_154 0 15 (dk_at dksX6_putAside_0 14 rfl rfl)
theorem dX6_putAside_17 : decode cX6_putAside 17 = .ok (.aload_n 0, 1) := dk_42 (dk_at dksX6_putAside_0 17 rfl rfl)
theorem dX6_putAside_18 : decode cX6_putAside 18 = .ok (.getfield 81, 3) := dk_180 0 81 (dk_at dksX6_putAside_0 18 rfl rfl)
theorem dX6_putAside_21 : decode cX6_putAside 21 = .ok (.aload_n 0, 1) := dk_42 (dk_at dksX6_putAside_0 21 rfl rfl)
theorem dX6_putAside_22 : decode cX6_putAside 22 = .ok (.getfield 385, 3) := dk_180 1 129 (dk_at dksX6_putAside_1 0 rfl rfl)
theorem dX6_putAside_25 : decode cX6_putAside 25 = .ok (.iconst 1, 1) := dk_4 (dk_at dksX6_putAside_1 3 rfl rfl)
theorem dX6_putAside_26 : decode cX6_putAside 26 = .ok (.isub, 1) := dk_100 (dk_at dksX6_putAside_1 4 rfl rfl)
theorem dX6_putAside_27 : decode cX6_putAside 27 = .ok (.iaload, 1) := dk_46 (dk_at dksX6_putAside_1 5 rfl rfl)
theorem dX6_putAside_28 : decode cX6_putAside 28 = .ok (.ireturn, 1) := dk_172 (dk_at dksX6_putAside_1 6 rfl rfl)
theorem dX6_putAside_29 : decode cX6_putAside 29 = .ok (.aload_n 0, 1) := dk_42 (dk_at dksX6_putAside_1 7 rfl rfl)
theorem dX6_putAside_30 : decode cX6_putAside 30 = .ok (.getfield 81, 3) := dk_180 0 81 (dk_at dksX6_putAside_1 8 rfl rfl)
theorem dX6_putAside_33 : decode cX6_putAside 33 = .ok (.aload_n 0, 1) := dk_42 (dk_at dksX6_putAside_1 11 rfl rfl)
theorem dX6_putAside_34 : decode cX6_putAside 34 = .ok (.getfield 385, 3) := dk_180 1 129 (dk_at dksX6_putAside_1 12 rfl rfl)
theorem dX6_putAside_37 : decode cX6_putAside 37 = .ok (.iconst 1, 1) := dk_4 (dk_at dksX6_putAside_1 15 rfl rfl)
theorem dX6_putAside_38 : decode cX6_putAside 38 = .ok (.isub, 1) := dk_100 (dk_at dksX6_putAside_1 16 rfl rfl)
theorem dX6_putAside_39 : decode cX6_putAside 39 = .ok (.iload_n 1, 1) := dk_27 (dk_at dksX6_putAside_1 17 rfl rfl)
theorem dX6_putAside_40 : decode cX6_putAside 40 = .ok (.iastore, 1) := dk_79 (dk_at dksX6_putAside_1 18 rfl rfl)
theorem dX6_putAside_41 : decode cX6_putAside 41 = .ok (.iload_n 1, 1) := dk_27 (dk_at dksX6_putAside_1 19 rfl rfl)
theorem dX6_putAside_42 : decode cX6_putAside 42 = .ok (.ireturn, 1) := dk_172 (dk_at dksX6_putAside_1 20 rfl rfl)
abbrev cX6_told : ByteArray := prog_17_method_94_code
def yX6_told : MethodName := ⟨RX6, "told", "(III)I"⟩
def dkwX6_told_3 : List UInt8 := [167, 255, 222, 16, 156, 172]
abbrev dktX6_told_3 : List UInt8 := dkwX6_told_3 ++ []
def dkwX6_told_2 : List UInt8 := [182, 0, 232, 153, 0, 17, 29, 154, 0, 8, 21, 4, 167, 0, 7, 21, 4, 28, 100, 172, 132, 4, 1]
abbrev dktX6_told_2 : List UInt8 := dkwX6_told_2 ++ dktX6_told_3
def dkwX6_told_1 : List UInt8 := [4, 182, 0, 109, 154, 0, 6, 16, 156, 172, 4, 54, 4, 21, 4, 16, 12, 163, 0, 33, 42, 27, 21, 4]
abbrev dktX6_told_1 : List UInt8 := dkwX6_told_1 ++ dktX6_told_2
def dkwX6_told_0 : List UInt8 := [42, 3, 181, 0, 90, 42, 27, 182, 0, 113, 153, 0, 21, 42, 28, 182, 0, 240, 153, 0, 13, 42, 29, 3]
abbrev dktX6_told_0 : List UInt8 := dkwX6_told_0 ++ dktX6_told_1
theorem dksX6_told_0 : cX6_told.data.toList.drop 0 = dktX6_told_0 := by decide +kernel
theorem dksX6_told_1 : cX6_told.data.toList.drop 24 = dktX6_told_1 := dk_seg dksX6_told_0 24 rfl rfl
theorem dksX6_told_2 : cX6_told.data.toList.drop 48 = dktX6_told_2 := dk_seg dksX6_told_1 24 rfl rfl
theorem dksX6_told_3 : cX6_told.data.toList.drop 71 = dktX6_told_3 := dk_seg dksX6_told_2 23 rfl rfl
theorem dX6_told_0 : decode cX6_told 0 = .ok (.aload_n 0, 1) := dk_42 (dk_at dksX6_told_0 0 rfl rfl)
theorem dX6_told_1 : decode cX6_told 1 = .ok (.iconst 0, 1) := dk_3 (dk_at dksX6_told_0 1 rfl rfl)
theorem dX6_told_2 : decode cX6_told 2 = .ok (.putfield 90, 3) := dk_181 0 90 (dk_at dksX6_told_0 2 rfl rfl)
theorem dX6_told_5 : decode cX6_told 5 = .ok (.aload_n 0, 1) := dk_42 (dk_at dksX6_told_0 5 rfl rfl)
theorem dX6_told_6 : decode cX6_told 6 = .ok (.iload_n 1, 1) := dk_27 (dk_at dksX6_told_0 6 rfl rfl)
theorem dX6_told_7 : decode cX6_told 7 = .ok (.invokevirtual 113, 3) := dk_182 0 113 (dk_at dksX6_told_0 7 rfl rfl)
theorem dX6_told_10 : decode cX6_told 10 = .ok (.ifCond .eq 21, 3) := dk_153 0 21 (dk_at dksX6_told_0 10 rfl rfl)
theorem dX6_told_13 : decode cX6_told 13 = .ok (.aload_n 0, 1) := dk_42 (dk_at dksX6_told_0 13 rfl rfl)
theorem dX6_told_14 : decode cX6_told 14 = .ok (.iload_n 2, 1) := dk_28 (dk_at dksX6_told_0 14 rfl rfl)
theorem dX6_told_15 : decode cX6_told 15 = .ok (.invokevirtual 240, 3) := dk_182 0 240 (dk_at dksX6_told_0 15 rfl rfl)
theorem dX6_told_18 : decode cX6_told 18 = .ok (.ifCond .eq 13, 3) := dk_153 0 13 (dk_at dksX6_told_0 18 rfl rfl)
theorem dX6_told_21 : decode cX6_told 21 = .ok (.aload_n 0, 1) := dk_42 (dk_at dksX6_told_0 21 rfl rfl)
theorem dX6_told_22 : decode cX6_told 22 = .ok (.iload_n 3, 1) := dk_29 (dk_at dksX6_told_0 22 rfl rfl)
theorem dX6_told_23 : decode cX6_told 23 = .ok (.iconst 0, 1) := dk_3 (dk_at dksX6_told_0 23 rfl rfl)
theorem dX6_told_24 : decode cX6_told 24 = .ok (.iconst 1, 1) := dk_4 (dk_at dksX6_told_1 0 rfl rfl)
theorem dX6_told_25 : decode cX6_told 25 = .ok (.invokevirtual 109, 3) := dk_182 0 109 (dk_at dksX6_told_1 1 rfl rfl)
theorem dX6_told_28 : decode cX6_told 28 = .ok (.ifCond .ne 6, 3) := dk_154 0 6 (dk_at dksX6_told_1 4 rfl rfl)
theorem dX6_told_31 : decode cX6_told 31 = .ok (.bipush (-100), 2) := dk_16 156 (dk_at dksX6_told_1 7 rfl rfl)
theorem dX6_told_33 : decode cX6_told 33 = .ok (.ireturn, 1) := dk_172 (dk_at dksX6_told_1 9 rfl rfl)
theorem dX6_told_34 : decode cX6_told 34 = .ok (.iconst 1, 1) := dk_4 (dk_at dksX6_told_1 10 rfl rfl)
theorem dX6_told_35 : decode cX6_told 35 = .ok (.istore 4, 2) := dk_54 4 (dk_at dksX6_told_1 11 rfl rfl)
theorem dX6_told_37 : decode cX6_told 37 = .ok (.iload 4, 2) := dk_21 4 (dk_at dksX6_told_1 13 rfl rfl)
theorem dX6_told_39 : decode cX6_told 39 = .ok (.bipush 12, 2) := dk_16 12 (dk_at dksX6_told_1 15 rfl rfl)
theorem dX6_told_41 : decode cX6_told 41 = .ok (.if_icmp .gt 33, 3) := dk_163 0 33 (dk_at dksX6_told_1 17 rfl rfl)
theorem dX6_told_44 : decode cX6_told 44 = .ok (.aload_n 0, 1) := dk_42 (dk_at dksX6_told_1 20 rfl rfl)
theorem dX6_told_45 : decode cX6_told 45 = .ok (.iload_n 1, 1) := dk_27 (dk_at dksX6_told_1 21 rfl rfl)
theorem dX6_told_46 : decode cX6_told 46 = .ok (.iload 4, 2) := dk_21 4 (dk_at dksX6_told_1 22 rfl rfl)
theorem dX6_told_48 : decode cX6_told 48 = .ok (.invokevirtual 232, 3) := dk_182 0 232 (dk_at dksX6_told_2 0 rfl rfl)
theorem dX6_told_51 : decode cX6_told 51 = .ok (.ifCond .eq 17, 3) := dk_153 0 17 (dk_at dksX6_told_2 3 rfl rfl)
theorem dX6_told_54 : decode cX6_told 54 = .ok (.iload_n 3, 1) := dk_29 (dk_at dksX6_told_2 6 rfl rfl)
theorem dX6_told_55 : decode cX6_told 55 = .ok (.ifCond .ne 8, 3) := dk_154 0 8 (dk_at dksX6_told_2 7 rfl rfl)
theorem dX6_told_58 : decode cX6_told 58 = .ok (.iload 4, 2) := dk_21 4 (dk_at dksX6_told_2 10 rfl rfl)
theorem dX6_told_60 : decode cX6_told 60 = .ok (.goto 7, 3) := dk_167 0 7 (dk_at dksX6_told_2 12 rfl rfl)
theorem dX6_told_63 : decode cX6_told 63 = .ok (.iload 4, 2) := dk_21 4 (dk_at dksX6_told_2 15 rfl rfl)
theorem dX6_told_65 : decode cX6_told 65 = .ok (.iload_n 2, 1) := dk_28 (dk_at dksX6_told_2 17 rfl rfl)
theorem dX6_told_66 : decode cX6_told 66 = .ok (.isub, 1) := dk_100 (dk_at dksX6_told_2 18 rfl rfl)
theorem dX6_told_67 : decode cX6_told 67 = .ok (.ireturn, 1) := dk_172 (dk_at dksX6_told_2 19 rfl rfl)
theorem dX6_told_68 : decode cX6_told 68 = .ok (.iinc 4 1, 3) := dk_132 4 1 (dk_at dksX6_told_2 20 rfl rfl)
theorem dX6_told_71 : decode cX6_told 71 = .ok (.goto (-34), 3) := dk_167 255 222 (dk_at dksX6_told_3 0 rfl rfl)
theorem dX6_told_74 : decode cX6_told 74 = .ok (.bipush (-100), 2) := dk_16 156 (dk_at dksX6_told_3 3 rfl rfl)
theorem dX6_told_76 : decode cX6_told 76 = .ok (.ireturn, 1) := dk_172 (dk_at dksX6_told_3 5 rfl rfl)
abbrev cX6_image : ByteArray := prog_17_method_96_code
def yX6_image : MethodName := ⟨RX6, "image", "(Z)Z"⟩
def dkwX6_image_9 : List UInt8 := [180, 0, 40, 28, 42, 42, 180, 0, 40, 28, 46, 182, 1, 154, 79, 132, 2, 1, 167, 255, 214, 4, 172]
abbrev dktX6_image_9 : List UInt8 := dkwX6_image_9 ++ []
def dkwX6_image_8 : List UInt8 := [17, 9, 96, 162, 0, 41, 42, 180, 0, 37, 28, 42, 42, 180, 0, 37, 28, 46, 182, 1, 154, 79, 42]
abbrev dktX6_image_8 : List UInt8 := dkwX6_image_8 ++ dktX6_image_9
def dkwX6_image_7 : List UInt8 := [180, 0, 34, 28, 42, 42, 180, 0, 34, 28, 46, 182, 1, 154, 79, 132, 2, 1, 167, 255, 199, 3, 61, 28]
abbrev dktX6_image_7 : List UInt8 := dkwX6_image_7 ++ dktX6_image_8
def dkwX6_image_6 : List UInt8 := [28, 46, 182, 1, 154, 79, 42, 180, 0, 31, 28, 42, 42, 180, 0, 31, 28, 46, 182, 1, 154, 79, 42]
abbrev dktX6_image_6 : List UInt8 := dkwX6_image_6 ++ dktX6_image_7
def dkwX6_image_5 : List UInt8 := [132, 2, 1, 167, 255, 231, 3, 61, 28, 16, 96, 162, 0, 57, 42, 180, 0, 28, 28, 42, 42, 180, 0, 28]
abbrev dktX6_image_5 : List UInt8 := dkwX6_image_5 ++ dktX6_image_6
def dkwX6_image_4 : List UInt8 := [61, 28, 16, 6, 162, 0, 25, 42, 180, 0, 25, 28, 42, 42, 180, 0, 25, 28, 46, 182, 1, 154, 79]
abbrev dktX6_image_4 : List UInt8 := dkwX6_image_4 ++ dktX6_image_5
def dkwX6_image_3 : List UInt8 := [42, 180, 0, 84, 28, 42, 180, 0, 81, 28, 46, 79, 132, 2, 1, 167, 255, 234, 42, 3, 181, 1, 148, 3]
abbrev dktX6_image_3 : List UInt8 := dkwX6_image_3 ++ dktX6_image_4
def dkwX6_image_2 : List UInt8 := [132, 2, 1, 167, 255, 234, 42, 27, 182, 1, 141, 27, 153, 0, 30, 3, 61, 28, 17, 10, 40, 162, 0, 21]
abbrev dktX6_image_2 : List UInt8 := dkwX6_image_2 ++ dktX6_image_3
def dkwX6_image_1 : List UInt8 := [154, 0, 30, 3, 61, 28, 17, 10, 40, 162, 0, 21, 42, 180, 0, 81, 28, 42, 180, 0, 84, 28, 46, 79]
abbrev dktX6_image_1 : List UInt8 := dkwX6_image_1 ++ dktX6_image_2
def dkwX6_image_0 : List UInt8 := [42, 3, 181, 0, 90, 27, 154, 0, 12, 42, 180, 1, 151, 154, 0, 5, 3, 172, 42, 4, 181, 1, 151, 27]
abbrev dktX6_image_0 : List UInt8 := dkwX6_image_0 ++ dktX6_image_1
theorem dksX6_image_0 : cX6_image.data.toList.drop 0 = dktX6_image_0 := by decide +kernel
theorem dksX6_image_1 : cX6_image.data.toList.drop 24 = dktX6_image_1 := dk_seg dksX6_image_0 24 rfl rfl
theorem dksX6_image_2 : cX6_image.data.toList.drop 48 = dktX6_image_2 := dk_seg dksX6_image_1 24 rfl rfl
theorem dksX6_image_3 : cX6_image.data.toList.drop 72 = dktX6_image_3 := dk_seg dksX6_image_2 24 rfl rfl
theorem dksX6_image_4 : cX6_image.data.toList.drop 96 = dktX6_image_4 := dk_seg dksX6_image_3 24 rfl rfl
theorem dksX6_image_5 : cX6_image.data.toList.drop 119 = dktX6_image_5 := dk_seg dksX6_image_4 23 rfl rfl
theorem dksX6_image_6 : cX6_image.data.toList.drop 143 = dktX6_image_6 := dk_seg dksX6_image_5 24 rfl rfl
theorem dksX6_image_7 : cX6_image.data.toList.drop 166 = dktX6_image_7 := dk_seg dksX6_image_6 23 rfl rfl
theorem dksX6_image_8 : cX6_image.data.toList.drop 190 = dktX6_image_8 := dk_seg dksX6_image_7 24 rfl rfl
theorem dksX6_image_9 : cX6_image.data.toList.drop 213 = dktX6_image_9 := dk_seg dksX6_image_8 23 rfl rfl
theorem dX6_image_0 : decode cX6_image 0 = .ok (.aload_n 0, 1) := dk_42 (dk_at dksX6_image_0 0 rfl rfl)
theorem dX6_image_1 : decode cX6_image 1 = .ok (.iconst 0, 1) := dk_3 (dk_at dksX6_image_0 1 rfl rfl)
theorem dX6_image_2 : decode cX6_image 2 = .ok (.putfield 90, 3) := dk_181 0 90 (dk_at dksX6_image_0 2 rfl rfl)
theorem dX6_image_5 : decode cX6_image 5 = .ok (.iload_n 1, 1) := dk_27 (dk_at dksX6_image_0 5 rfl rfl)
theorem dX6_image_6 : decode cX6_image 6 = .ok (.ifCond .ne 12, 3) := dk_154 0 12 (dk_at dksX6_image_0 6 rfl rfl)
theorem dX6_image_9 : decode cX6_image 9 = .ok (.aload_n 0, 1) := dk_42 (dk_at dksX6_image_0 9 rfl rfl)
theorem dX6_image_10 : decode cX6_image 10 = .ok (.getfield 407, 3) := dk_180 1 151 (dk_at dksX6_image_0 10 rfl rfl)
theorem dX6_image_13 : decode cX6_image 13 = .ok (.ifCond .ne 5, 3) := dk_154 0 5 (dk_at dksX6_image_0 13 rfl rfl)
theorem dX6_image_16 : decode cX6_image 16 = .ok (.iconst 0, 1) := dk_3 (dk_at dksX6_image_0 16 rfl rfl)
theorem dX6_image_17 : decode cX6_image 17 = .ok (.ireturn, 1) := dk_172 (dk_at dksX6_image_0 17 rfl rfl)
theorem dX6_image_18 : decode cX6_image 18 = .ok (.aload_n 0, 1) := dk_42 (dk_at dksX6_image_0 18 rfl rfl)
theorem dX6_image_19 : decode cX6_image 19 = .ok (.iconst 1, 1) := dk_4 (dk_at dksX6_image_0 19 rfl rfl)
theorem dX6_image_20 : decode cX6_image 20 = .ok (.putfield 407, 3) := dk_181 1 151 (dk_at dksX6_image_0 20 rfl rfl)
theorem dX6_image_23 : decode cX6_image 23 = .ok (.iload_n 1, 1) := dk_27 (dk_at dksX6_image_0 23 rfl rfl)
theorem dX6_image_24 : decode cX6_image 24 = .ok (.ifCond .ne 30, 3) := dk_154 0 30 (dk_at dksX6_image_1 0 rfl rfl)
theorem dX6_image_27 : decode cX6_image 27 = .ok (.iconst 0, 1) := dk_3 (dk_at dksX6_image_1 3 rfl rfl)
theorem dX6_image_28 : decode cX6_image 28 = .ok (.istore_n 2, 1) := dk_61 (dk_at dksX6_image_1 4 rfl rfl)
theorem dX6_image_29 : decode cX6_image 29 = .ok (.iload_n 2, 1) := dk_28 (dk_at dksX6_image_1 5 rfl rfl)
theorem dX6_image_30 : decode cX6_image 30 = .ok (.sipush 2600, 3) := dk_17 10 40 (dk_at dksX6_image_1 6 rfl rfl)
theorem dX6_image_33 : decode cX6_image 33 = .ok (.if_icmp .ge 21, 3) := dk_162 0 21 (dk_at dksX6_image_1 9 rfl rfl)
theorem dX6_image_36 : decode cX6_image 36 = .ok (.aload_n 0, 1) := dk_42 (dk_at dksX6_image_1 12 rfl rfl)
theorem dX6_image_37 : decode cX6_image 37 = .ok (.getfield 81, 3) := dk_180 0 81 (dk_at dksX6_image_1 13 rfl rfl)
theorem dX6_image_40 : decode cX6_image 40 = .ok (.iload_n 2, 1) := dk_28 (dk_at dksX6_image_1 16 rfl rfl)
theorem dX6_image_41 : decode cX6_image 41 = .ok (.aload_n 0, 1) := dk_42 (dk_at dksX6_image_1 17 rfl rfl)
theorem dX6_image_42 : decode cX6_image 42 = .ok (.getfield 84, 3) := dk_180 0 84 (dk_at dksX6_image_1 18 rfl rfl)
theorem dX6_image_45 : decode cX6_image 45 = .ok (.iload_n 2, 1) := dk_28 (dk_at dksX6_image_1 21 rfl rfl)
theorem dX6_image_46 : decode cX6_image 46 = .ok (.iaload, 1) := dk_46 (dk_at dksX6_image_1 22 rfl rfl)
theorem dX6_image_47 : decode cX6_image 47 = .ok (.iastore, 1) := dk_79 (dk_at dksX6_image_1 23 rfl rfl)
theorem dX6_image_48 : decode cX6_image 48 = .ok (.iinc 2 1, 3) := dk_132 2 1 (dk_at dksX6_image_2 0 rfl rfl)
theorem dX6_image_51 : decode cX6_image 51 = .ok (.goto (-22), 3) := dk_167 255 234 (dk_at dksX6_image_2 3 rfl rfl)
theorem dX6_image_54 : decode cX6_image 54 = .ok (.aload_n 0, 1) := dk_42 (dk_at dksX6_image_2 6 rfl rfl)
theorem dX6_image_55 : decode cX6_image 55 = .ok (.iload_n 1, 1) := dk_27 (dk_at dksX6_image_2 7 rfl rfl)
theorem dX6_image_56 : decode cX6_image 56 = .ok (.invokevirtual 397, 3) := dk_182 1 141 (dk_at dksX6_image_2 8 rfl rfl)
theorem dX6_image_59 : decode cX6_image 59 = .ok (.iload_n 1, 1) := dk_27 (dk_at dksX6_image_2 11 rfl rfl)
theorem dX6_image_60 : decode cX6_image 60 = .ok (.ifCond .eq 30, 3) := dk_153 0 30 (dk_at dksX6_image_2 12 rfl rfl)
theorem dX6_image_63 : decode cX6_image 63 = .ok (.iconst 0, 1) := dk_3 (dk_at dksX6_image_2 15 rfl rfl)
theorem dX6_image_64 : decode cX6_image 64 = .ok (.istore_n 2, 1) := dk_61 (dk_at dksX6_image_2 16 rfl rfl)
theorem dX6_image_65 : decode cX6_image 65 = .ok (.iload_n 2, 1) := dk_28 (dk_at dksX6_image_2 17 rfl rfl)
theorem dX6_image_66 : decode cX6_image 66 = .ok (.sipush 2600, 3) := dk_17 10 40 (dk_at dksX6_image_2 18 rfl rfl)
theorem dX6_image_69 : decode cX6_image 69 = .ok (.if_icmp .ge 21, 3) := dk_162 0 21 (dk_at dksX6_image_2 21 rfl rfl)
theorem dX6_image_72 : decode cX6_image 72 = .ok (.aload_n 0, 1) := dk_42 (dk_at dksX6_image_3 0 rfl rfl)
theorem dX6_image_73 : decode cX6_image 73 = .ok (.getfield 84, 3) := dk_180 0 84 (dk_at dksX6_image_3 1 rfl rfl)
theorem dX6_image_76 : decode cX6_image 76 = .ok (.iload_n 2, 1) := dk_28 (dk_at dksX6_image_3 4 rfl rfl)
theorem dX6_image_77 : decode cX6_image 77 = .ok (.aload_n 0, 1) := dk_42 (dk_at dksX6_image_3 5 rfl rfl)
theorem dX6_image_78 : decode cX6_image 78 = .ok (.getfield 81, 3) := dk_180 0 81 (dk_at dksX6_image_3 6 rfl rfl)
theorem dX6_image_81 : decode cX6_image 81 = .ok (.iload_n 2, 1) := dk_28 (dk_at dksX6_image_3 9 rfl rfl)
theorem dX6_image_82 : decode cX6_image 82 = .ok (.iaload, 1) := dk_46 (dk_at dksX6_image_3 10 rfl rfl)
theorem dX6_image_83 : decode cX6_image 83 = .ok (.iastore, 1) := dk_79 (dk_at dksX6_image_3 11 rfl rfl)
theorem dX6_image_84 : decode cX6_image 84 = .ok (.iinc 2 1, 3) := dk_132 2 1 (dk_at dksX6_image_3 12 rfl rfl)
theorem dX6_image_87 : decode cX6_image 87 = .ok (.goto (-22), 3) := dk_167 255 234 (dk_at dksX6_image_3 15 rfl rfl)
theorem dX6_image_90 : decode cX6_image 90 = .ok (.aload_n 0, 1) := dk_42 (dk_at dksX6_image_3 18 rfl rfl)
theorem dX6_image_91 : decode cX6_image 91 = .ok (.iconst 0, 1) := dk_3 (dk_at dksX6_image_3 19 rfl rfl)
theorem dX6_image_92 : decode cX6_image 92 = .ok (.putfield 404, 3) := dk_181 1 148 (dk_at dksX6_image_3 20 rfl rfl)
theorem dX6_image_95 : decode cX6_image 95 = .ok (.iconst 0, 1) := dk_3 (dk_at dksX6_image_3 23 rfl rfl)
theorem dX6_image_96 : decode cX6_image 96 = .ok (.istore_n 2, 1) := dk_61 (dk_at dksX6_image_4 0 rfl rfl)
theorem dX6_image_97 : decode cX6_image 97 = .ok (.iload_n 2, 1) := dk_28 (dk_at dksX6_image_4 1 rfl rfl)
theorem dX6_image_98 : decode cX6_image 98 = .ok (.bipush 6, 2) := dk_16 6 (dk_at dksX6_image_4 2 rfl rfl)
theorem dX6_image_100 : decode cX6_image 100 = .ok (.if_icmp .ge 25, 3) := dk_162 0 25 (dk_at dksX6_image_4 4 rfl rfl)
theorem dX6_image_103 : decode cX6_image 103 = .ok (.aload_n 0, 1) := dk_42 (dk_at dksX6_image_4 7 rfl rfl)
theorem dX6_image_104 : decode cX6_image 104 = .ok (.getfield 25, 3) := dk_180 0 25 (dk_at dksX6_image_4 8 rfl rfl)
theorem dX6_image_107 : decode cX6_image 107 = .ok (.iload_n 2, 1) := dk_28 (dk_at dksX6_image_4 11 rfl rfl)
theorem dX6_image_108 : decode cX6_image 108 = .ok (.aload_n 0, 1) := dk_42 (dk_at dksX6_image_4 12 rfl rfl)
theorem dX6_image_109 : decode cX6_image 109 = .ok (.aload_n 0, 1) := dk_42 (dk_at dksX6_image_4 13 rfl rfl)
theorem dX6_image_110 : decode cX6_image 110 = .ok (.getfield 25, 3) := dk_180 0 25 (dk_at dksX6_image_4 14 rfl rfl)
theorem dX6_image_113 : decode cX6_image 113 = .ok (.iload_n 2, 1) := dk_28 (dk_at dksX6_image_4 17 rfl rfl)
theorem dX6_image_114 : decode cX6_image 114 = .ok (.iaload, 1) := dk_46 (dk_at dksX6_image_4 18 rfl rfl)
theorem dX6_image_115 : decode cX6_image 115 = .ok (.invokevirtual 410, 3) := dk_182 1 154 (dk_at dksX6_image_4 19 rfl rfl)
theorem dX6_image_118 : decode cX6_image 118 = .ok (.iastore, 1) := dk_79 (dk_at dksX6_image_4 22 rfl rfl)
theorem dX6_image_119 : decode cX6_image 119 = .ok (.iinc 2 1, 3) := dk_132 2 1 (dk_at dksX6_image_5 0 rfl rfl)
theorem dX6_image_122 : decode cX6_image 122 = .ok (.goto (-25), 3) := dk_167 255 231 (dk_at dksX6_image_5 3 rfl rfl)
theorem dX6_image_125 : decode cX6_image 125 = .ok (.iconst 0, 1) := dk_3 (dk_at dksX6_image_5 6 rfl rfl)
theorem dX6_image_126 : decode cX6_image 126 = .ok (.istore_n 2, 1) := dk_61 (dk_at dksX6_image_5 7 rfl rfl)
theorem dX6_image_127 : decode cX6_image 127 = .ok (.iload_n 2, 1) := dk_28 (dk_at dksX6_image_5 8 rfl rfl)
theorem dX6_image_128 : decode cX6_image 128 = .ok (.bipush 96, 2) := dk_16 96 (dk_at dksX6_image_5 9 rfl rfl)
theorem dX6_image_130 : decode cX6_image 130 = .ok (.if_icmp .ge 57, 3) := dk_162 0 57 (dk_at dksX6_image_5 11 rfl rfl)
theorem dX6_image_133 : decode cX6_image 133 = .ok (.aload_n 0, 1) := dk_42 (dk_at dksX6_image_5 14 rfl rfl)
theorem dX6_image_134 : decode cX6_image 134 = .ok (.getfield 28, 3) := dk_180 0 28 (dk_at dksX6_image_5 15 rfl rfl)
theorem dX6_image_137 : decode cX6_image 137 = .ok (.iload_n 2, 1) := dk_28 (dk_at dksX6_image_5 18 rfl rfl)
theorem dX6_image_138 : decode cX6_image 138 = .ok (.aload_n 0, 1) := dk_42 (dk_at dksX6_image_5 19 rfl rfl)
theorem dX6_image_139 : decode cX6_image 139 = .ok (.aload_n 0, 1) := dk_42 (dk_at dksX6_image_5 20 rfl rfl)
theorem dX6_image_140 : decode cX6_image 140 = .ok (.getfield 28, 3) := dk_180 0 28 (dk_at dksX6_image_5 21 rfl rfl)
theorem dX6_image_143 : decode cX6_image 143 = .ok (.iload_n 2, 1) := dk_28 (dk_at dksX6_image_6 0 rfl rfl)
theorem dX6_image_144 : decode cX6_image 144 = .ok (.iaload, 1) := dk_46 (dk_at dksX6_image_6 1 rfl rfl)
theorem dX6_image_145 : decode cX6_image 145 = .ok (.invokevirtual 410, 3) := dk_182 1 154 (dk_at dksX6_image_6 2 rfl rfl)
theorem dX6_image_148 : decode cX6_image 148 = .ok (.iastore, 1) := dk_79 (dk_at dksX6_image_6 5 rfl rfl)
theorem dX6_image_149 : decode cX6_image 149 = .ok (.aload_n 0, 1) := dk_42 (dk_at dksX6_image_6 6 rfl rfl)
theorem dX6_image_150 : decode cX6_image 150 = .ok (.getfield 31, 3) := dk_180 0 31 (dk_at dksX6_image_6 7 rfl rfl)
theorem dX6_image_153 : decode cX6_image 153 = .ok (.iload_n 2, 1) := dk_28 (dk_at dksX6_image_6 10 rfl rfl)
theorem dX6_image_154 : decode cX6_image 154 = .ok (.aload_n 0, 1) := dk_42 (dk_at dksX6_image_6 11 rfl rfl)
theorem dX6_image_155 : decode cX6_image 155 = .ok (.aload_n 0, 1) := dk_42 (dk_at dksX6_image_6 12 rfl rfl)
theorem dX6_image_156 : decode cX6_image 156 = .ok (.getfield 31, 3) := dk_180 0 31 (dk_at dksX6_image_6 13 rfl rfl)
theorem dX6_image_159 : decode cX6_image 159 = .ok (.iload_n 2, 1) := dk_28 (dk_at dksX6_image_6 16 rfl rfl)
theorem dX6_image_160 : decode cX6_image 160 = .ok (.iaload, 1) := dk_46 (dk_at dksX6_image_6 17 rfl rfl)
theorem dX6_image_161 : decode cX6_image 161 = .ok (.invokevirtual 410, 3) := dk_182 1 154 (dk_at dksX6_image_6 18 rfl rfl)
theorem dX6_image_164 : decode cX6_image 164 = .ok (.iastore, 1) := dk_79 (dk_at dksX6_image_6 21 rfl rfl)
theorem dX6_image_165 : decode cX6_image 165 = .ok (.aload_n 0, 1) := dk_42 (dk_at dksX6_image_6 22 rfl rfl)
theorem dX6_image_166 : decode cX6_image 166 = .ok (.getfield 34, 3) := dk_180 0 34 (dk_at dksX6_image_7 0 rfl rfl)
theorem dX6_image_169 : decode cX6_image 169 = .ok (.iload_n 2, 1) := dk_28 (dk_at dksX6_image_7 3 rfl rfl)
theorem dX6_image_170 : decode cX6_image 170 = .ok (.aload_n 0, 1) := dk_42 (dk_at dksX6_image_7 4 rfl rfl)
theorem dX6_image_171 : decode cX6_image 171 = .ok (.aload_n 0, 1) := dk_42 (dk_at dksX6_image_7 5 rfl rfl)
theorem dX6_image_172 : decode cX6_image 172 = .ok (.getfield 34, 3) := dk_180 0 34 (dk_at dksX6_image_7 6 rfl rfl)
theorem dX6_image_175 : decode cX6_image 175 = .ok (.iload_n 2, 1) := dk_28 (dk_at dksX6_image_7 9 rfl rfl)
theorem dX6_image_176 : decode cX6_image 176 = .ok (.iaload, 1) := dk_46 (dk_at dksX6_image_7 10 rfl rfl)
theorem dX6_image_177 : decode cX6_image 177 = .ok (.invokevirtual 410, 3) := dk_182 1 154 (dk_at dksX6_image_7 11 rfl rfl)
theorem dX6_image_180 : decode cX6_image 180 = .ok (.iastore, 1) := dk_79 (dk_at dksX6_image_7 14 rfl rfl)
theorem dX6_image_181 : decode cX6_image 181 = .ok (.iinc 2 1, 3) := dk_132 2 1 (dk_at dksX6_image_7 15 rfl rfl)
theorem dX6_image_184 : decode cX6_image 184 = .ok (.goto (-57), 3) := dk_167 255 199 (dk_at dksX6_image_7 18 rfl rfl)
theorem dX6_image_187 : decode cX6_image 187 = .ok (.iconst 0, 1) := dk_3 (dk_at dksX6_image_7 21 rfl rfl)
theorem dX6_image_188 : decode cX6_image 188 = .ok (.istore_n 2, 1) := dk_61 (dk_at dksX6_image_7 22 rfl rfl)
theorem dX6_image_189 : decode cX6_image 189 = .ok (.iload_n 2, 1) := dk_28 (dk_at dksX6_image_7 23 rfl rfl)
theorem dX6_image_190 : decode cX6_image 190 = .ok (.sipush 2400, 3) := dk_17 9 96 (dk_at dksX6_image_8 0 rfl rfl)
theorem dX6_image_193 : decode cX6_image 193 = .ok (.if_icmp .ge 41, 3) := dk_162 0 41 (dk_at dksX6_image_8 3 rfl rfl)
theorem dX6_image_196 : decode cX6_image 196 = .ok (.aload_n 0, 1) := dk_42 (dk_at dksX6_image_8 6 rfl rfl)
theorem dX6_image_197 : decode cX6_image 197 = .ok (.getfield 37, 3) := dk_180 0 37 (dk_at dksX6_image_8 7 rfl rfl)
theorem dX6_image_200 : decode cX6_image 200 = .ok (.iload_n 2, 1) := dk_28 (dk_at dksX6_image_8 10 rfl rfl)
theorem dX6_image_201 : decode cX6_image 201 = .ok (.aload_n 0, 1) := dk_42 (dk_at dksX6_image_8 11 rfl rfl)
theorem dX6_image_202 : decode cX6_image 202 = .ok (.aload_n 0, 1) := dk_42 (dk_at dksX6_image_8 12 rfl rfl)
theorem dX6_image_203 : decode cX6_image 203 = .ok (.getfield 37, 3) := dk_180 0 37 (dk_at dksX6_image_8 13 rfl rfl)
theorem dX6_image_206 : decode cX6_image 206 = .ok (.iload_n 2, 1) := dk_28 (dk_at dksX6_image_8 16 rfl rfl)
theorem dX6_image_207 : decode cX6_image 207 = .ok (.iaload, 1) := dk_46 (dk_at dksX6_image_8 17 rfl rfl)
theorem dX6_image_208 : decode cX6_image 208 = .ok (.invokevirtual 410, 3) := dk_182 1 154 (dk_at dksX6_image_8 18 rfl rfl)
theorem dX6_image_211 : decode cX6_image 211 = .ok (.iastore, 1) := dk_79 (dk_at dksX6_image_8 21 rfl rfl)
theorem dX6_image_212 : decode cX6_image 212 = .ok (.aload_n 0, 1) := dk_42 (dk_at dksX6_image_8 22 rfl rfl)
theorem dX6_image_213 : decode cX6_image 213 = .ok (.getfield 40, 3) := dk_180 0 40 (dk_at dksX6_image_9 0 rfl rfl)
theorem dX6_image_216 : decode cX6_image 216 = .ok (.iload_n 2, 1) := dk_28 (dk_at dksX6_image_9 3 rfl rfl)
theorem dX6_image_217 : decode cX6_image 217 = .ok (.aload_n 0, 1) := dk_42 (dk_at dksX6_image_9 4 rfl rfl)
theorem dX6_image_218 : decode cX6_image 218 = .ok (.aload_n 0, 1) := dk_42 (dk_at dksX6_image_9 5 rfl rfl)
theorem dX6_image_219 : decode cX6_image 219 = .ok (.getfield 40, 3) := dk_180 0 40 (dk_at dksX6_image_9 6 rfl rfl)
theorem dX6_image_222 : decode cX6_image 222 = .ok (.iload_n 2, 1) := dk_28 (dk_at dksX6_image_9 9 rfl rfl)
theorem dX6_image_223 : decode cX6_image 223 = .ok (.iaload, 1) := dk_46 (dk_at dksX6_image_9 10 rfl rfl)
theorem dX6_image_224 : decode cX6_image 224 = .ok (.invokevirtual 410, 3) := dk_182 1 154 (dk_at dksX6_image_9 11 rfl rfl)
theorem dX6_image_227 : decode cX6_image 227 = .ok (.iastore, 1) := dk_79 (dk_at dksX6_image_9 14 rfl rfl)
theorem dX6_image_228 : decode cX6_image 228 = .ok (.iinc 2 1, 3) := dk_132 2 1 (dk_at dksX6_image_9 15 rfl rfl)
theorem dX6_image_231 : decode cX6_image 231 = .ok (.goto (-42), 3) := dk_167 255 214 (dk_at dksX6_image_9 18 rfl rfl)
theorem dX6_image_234 : decode cX6_image 234 = .ok (.iconst 1, 1) := dk_4 (dk_at dksX6_image_9 21 rfl rfl)
theorem dX6_image_235 : decode cX6_image 235 = .ok (.ireturn, 1) := dk_172 (dk_at dksX6_image_9 22 rfl rfl)
abbrev cX6_keptText : ByteArray := prog_17_method_95_code
def yX6_keptText : MethodName := ⟨RX6, "keptText", "(I)I"⟩
def dkwX6_keptText_1 : List UInt8 := [180, 1, 148, 4, 100, 46, 172, 42, 180, 0, 87, 42, 180, 1, 148, 4, 100, 27, 79, 27, 172]
abbrev dktX6_keptText_1 : List UInt8 := dkwX6_keptText_1 ++ []
def dkwX6_keptText_0 : List UInt8 := [42, 42, 180, 1, 148, 4, 96, 181, 1, 148, 42, 180, 1, 132, 154, 0, 15, 42, 180, 0, 87, 42]
abbrev dktX6_keptText_0 : List UInt8 := dkwX6_keptText_0 ++ dktX6_keptText_1
theorem dksX6_keptText_0 : cX6_keptText.data.toList.drop 0 = dktX6_keptText_0 := by decide +kernel
theorem dksX6_keptText_1 : cX6_keptText.data.toList.drop 22 = dktX6_keptText_1 := dk_seg dksX6_keptText_0 22 rfl rfl
theorem dX6_keptText_0 : decode cX6_keptText 0 = .ok (.aload_n 0, 1) := dk_42 (dk_at dksX6_keptText_0 0 rfl rfl)
theorem dX6_keptText_1 : decode cX6_keptText 1 = .ok (.aload_n 0, 1) := dk_42 (dk_at dksX6_keptText_0 1 rfl rfl)
theorem dX6_keptText_2 : decode cX6_keptText 2 = .ok (.getfield 404, 3) := dk_180 1 148 (dk_at dksX6_keptText_0 2 rfl rfl)
theorem dX6_keptText_5 : decode cX6_keptText 5 = .ok (.iconst 1, 1) := dk_4 (dk_at dksX6_keptText_0 5 rfl rfl)
theorem dX6_keptText_6 : decode cX6_keptText 6 = .ok (.iadd, 1) := dk_96 (dk_at dksX6_keptText_0 6 rfl rfl)
theorem dX6_keptText_7 : decode cX6_keptText 7 = .ok (.putfield 404, 3) := dk_181 1 148 (dk_at dksX6_keptText_0 7 rfl rfl)
theorem dX6_keptText_10 : decode cX6_keptText 10 = .ok (.aload_n 0, 1) := dk_42 (dk_at dksX6_keptText_0 10 rfl rfl)
theorem dX6_keptText_11 : decode cX6_keptText 11 = .ok (.getfield 388, 3) := dk_180 1 132 (dk_at dksX6_keptText_0 11 rfl rfl)
theorem dX6_keptText_14 : decode cX6_keptText 14 = .ok (.ifCond .ne 15, 3) := dk_154 0 15 (dk_at dksX6_keptText_0 14 rfl rfl)
theorem dX6_keptText_17 : decode cX6_keptText 17 = .ok (.aload_n 0, 1) := dk_42 (dk_at dksX6_keptText_0 17 rfl rfl)
theorem dX6_keptText_18 : decode cX6_keptText 18 = .ok (.getfield 87, 3) := dk_180 0 87 (dk_at dksX6_keptText_0 18 rfl rfl)
theorem dX6_keptText_21 : decode cX6_keptText 21 = .ok (.aload_n 0, 1) := dk_42 (dk_at dksX6_keptText_0 21 rfl rfl)
theorem dX6_keptText_22 : decode cX6_keptText 22 = .ok (.getfield 404, 3) := dk_180 1 148 (dk_at dksX6_keptText_1 0 rfl rfl)
theorem dX6_keptText_25 : decode cX6_keptText 25 = .ok (.iconst 1, 1) := dk_4 (dk_at dksX6_keptText_1 3 rfl rfl)
theorem dX6_keptText_26 : decode cX6_keptText 26 = .ok (.isub, 1) := dk_100 (dk_at dksX6_keptText_1 4 rfl rfl)
theorem dX6_keptText_27 : decode cX6_keptText 27 = .ok (.iaload, 1) := dk_46 (dk_at dksX6_keptText_1 5 rfl rfl)
theorem dX6_keptText_28 : decode cX6_keptText 28 = .ok (.ireturn, 1) := dk_172 (dk_at dksX6_keptText_1 6 rfl rfl)
theorem dX6_keptText_29 : decode cX6_keptText 29 = .ok (.aload_n 0, 1) := dk_42 (dk_at dksX6_keptText_1 7 rfl rfl)
theorem dX6_keptText_30 : decode cX6_keptText 30 = .ok (.getfield 87, 3) := dk_180 0 87 (dk_at dksX6_keptText_1 8 rfl rfl)
theorem dX6_keptText_33 : decode cX6_keptText 33 = .ok (.aload_n 0, 1) := dk_42 (dk_at dksX6_keptText_1 11 rfl rfl)
theorem dX6_keptText_34 : decode cX6_keptText 34 = .ok (.getfield 404, 3) := dk_180 1 148 (dk_at dksX6_keptText_1 12 rfl rfl)
theorem dX6_keptText_37 : decode cX6_keptText 37 = .ok (.iconst 1, 1) := dk_4 (dk_at dksX6_keptText_1 15 rfl rfl)
theorem dX6_keptText_38 : decode cX6_keptText 38 = .ok (.isub, 1) := dk_100 (dk_at dksX6_keptText_1 16 rfl rfl)
theorem dX6_keptText_39 : decode cX6_keptText 39 = .ok (.iload_n 1, 1) := dk_27 (dk_at dksX6_keptText_1 17 rfl rfl)
theorem dX6_keptText_40 : decode cX6_keptText 40 = .ok (.iastore, 1) := dk_79 (dk_at dksX6_keptText_1 18 rfl rfl)
theorem dX6_keptText_41 : decode cX6_keptText 41 = .ok (.iload_n 1, 1) := dk_27 (dk_at dksX6_keptText_1 19 rfl rfl)
theorem dX6_keptText_42 : decode cX6_keptText 42 = .ok (.ireturn, 1) := dk_172 (dk_at dksX6_keptText_1 20 rfl rfl)
abbrev cX6_look : ByteArray := prog_17_method_97_code
def yX6_look : MethodName := ⟨RX6, "look", "(I)I"⟩
def dkwX6_look_3 : List UInt8 := [167, 0, 4, 2, 172]
abbrev dktX6_look_3 : List UInt8 := dkwX6_look_3 ++ []
def dkwX6_look_2 : List UInt8 := [16, 32, 182, 0, 109, 153, 0, 21, 27, 16, 20, 159, 0, 15, 42, 180, 0, 13, 27, 16, 10, 100, 46]
abbrev dktX6_look_2 : List UInt8 := dkwX6_look_2 ++ dktX6_look_3
def dkwX6_look_1 : List UInt8 := [27, 5, 160, 0, 8, 42, 180, 1, 8, 172, 27, 6, 160, 0, 8, 42, 182, 1, 22, 172, 42, 27, 16, 10]
abbrev dktX6_look_1 : List UInt8 := dkwX6_look_1 ++ dktX6_look_2
def dkwX6_look_0 : List UInt8 := [42, 3, 181, 0, 90, 27, 154, 0, 8, 42, 180, 0, 98, 172, 27, 4, 160, 0, 8, 42, 180, 0, 222, 172]
abbrev dktX6_look_0 : List UInt8 := dkwX6_look_0 ++ dktX6_look_1
theorem dksX6_look_0 : cX6_look.data.toList.drop 0 = dktX6_look_0 := by decide +kernel
theorem dksX6_look_1 : cX6_look.data.toList.drop 24 = dktX6_look_1 := dk_seg dksX6_look_0 24 rfl rfl
theorem dksX6_look_2 : cX6_look.data.toList.drop 48 = dktX6_look_2 := dk_seg dksX6_look_1 24 rfl rfl
theorem dksX6_look_3 : cX6_look.data.toList.drop 71 = dktX6_look_3 := dk_seg dksX6_look_2 23 rfl rfl
theorem dX6_look_0 : decode cX6_look 0 = .ok (.aload_n 0, 1) := dk_42 (dk_at dksX6_look_0 0 rfl rfl)
theorem dX6_look_1 : decode cX6_look 1 = .ok (.iconst 0, 1) := dk_3 (dk_at dksX6_look_0 1 rfl rfl)
theorem dX6_look_2 : decode cX6_look 2 = .ok (.putfield 90, 3) := dk_181 0 90 (dk_at dksX6_look_0 2 rfl rfl)
theorem dX6_look_5 : decode cX6_look 5 = .ok (.iload_n 1, 1) := dk_27 (dk_at dksX6_look_0 5 rfl rfl)
theorem dX6_look_6 : decode cX6_look 6 = .ok (.ifCond .ne 8, 3) := dk_154 0 8 (dk_at dksX6_look_0 6 rfl rfl)
theorem dX6_look_9 : decode cX6_look 9 = .ok (.aload_n 0, 1) := dk_42 (dk_at dksX6_look_0 9 rfl rfl)
theorem dX6_look_10 : decode cX6_look 10 = .ok (.getfield 98, 3) := dk_180 0 98 (dk_at dksX6_look_0 10 rfl rfl)
theorem dX6_look_13 : decode cX6_look 13 = .ok (.ireturn, 1) := dk_172 (dk_at dksX6_look_0 13 rfl rfl)
theorem dX6_look_14 : decode cX6_look 14 = .ok (.iload_n 1, 1) := dk_27 (dk_at dksX6_look_0 14 rfl rfl)
theorem dX6_look_15 : decode cX6_look 15 = .ok (.iconst 1, 1) := dk_4 (dk_at dksX6_look_0 15 rfl rfl)
theorem dX6_look_16 : decode cX6_look 16 = .ok (.if_icmp .ne 8, 3) := dk_160 0 8 (dk_at dksX6_look_0 16 rfl rfl)
theorem dX6_look_19 : decode cX6_look 19 = .ok (.aload_n 0, 1) := dk_42 (dk_at dksX6_look_0 19 rfl rfl)
theorem dX6_look_20 : decode cX6_look 20 = .ok (.getfield 222, 3) := dk_180 0 222 (dk_at dksX6_look_0 20 rfl rfl)
theorem dX6_look_23 : decode cX6_look 23 = .ok (.ireturn, 1) := dk_172 (dk_at dksX6_look_0 23 rfl rfl)
theorem dX6_look_24 : decode cX6_look 24 = .ok (.iload_n 1, 1) := dk_27 (dk_at dksX6_look_1 0 rfl rfl)
theorem dX6_look_25 : decode cX6_look 25 = .ok (.iconst 2, 1) := dk_5 (dk_at dksX6_look_1 1 rfl rfl)
theorem dX6_look_26 : decode cX6_look 26 = .ok (.if_icmp .ne 8, 3) := dk_160 0 8 (dk_at dksX6_look_1 2 rfl rfl)
theorem dX6_look_29 : decode cX6_look 29 = .ok (.aload_n 0, 1) := dk_42 (dk_at dksX6_look_1 5 rfl rfl)
theorem dX6_look_30 : decode cX6_look 30 = .ok (.getfield 264, 3) := dk_180 1 8 (dk_at dksX6_look_1 6 rfl rfl)
theorem dX6_look_33 : decode cX6_look 33 = .ok (.ireturn, 1) := dk_172 (dk_at dksX6_look_1 9 rfl rfl)
theorem dX6_look_34 : decode cX6_look 34 = .ok (.iload_n 1, 1) := dk_27 (dk_at dksX6_look_1 10 rfl rfl)
theorem dX6_look_35 : decode cX6_look 35 = .ok (.iconst 3, 1) := dk_6 (dk_at dksX6_look_1 11 rfl rfl)
theorem dX6_look_36 : decode cX6_look 36 = .ok (.if_icmp .ne 8, 3) := dk_160 0 8 (dk_at dksX6_look_1 12 rfl rfl)
theorem dX6_look_39 : decode cX6_look 39 = .ok (.aload_n 0, 1) := dk_42 (dk_at dksX6_look_1 15 rfl rfl)
theorem dX6_look_40 : decode cX6_look 40 = .ok (.invokevirtual 278, 3) := dk_182 1 22 (dk_at dksX6_look_1 16 rfl rfl)
theorem dX6_look_43 : decode cX6_look 43 = .ok (.ireturn, 1) := dk_172 (dk_at dksX6_look_1 19 rfl rfl)
theorem dX6_look_44 : decode cX6_look 44 = .ok (.aload_n 0, 1) := dk_42 (dk_at dksX6_look_1 20 rfl rfl)
theorem dX6_look_45 : decode cX6_look 45 = .ok (.iload_n 1, 1) := dk_27 (dk_at dksX6_look_1 21 rfl rfl)
theorem dX6_look_46 : decode cX6_look 46 = .ok (.bipush 10, 2) := dk_16 10 (dk_at dksX6_look_1 22 rfl rfl)
theorem dX6_look_48 : decode cX6_look 48 = .ok (.bipush 32, 2) := dk_16 32 (dk_at dksX6_look_2 0 rfl rfl)
theorem dX6_look_50 : decode cX6_look 50 = .ok (.invokevirtual 109, 3) := dk_182 0 109 (dk_at dksX6_look_2 2 rfl rfl)
theorem dX6_look_53 : decode cX6_look 53 = .ok (.ifCond .eq 21, 3) := dk_153 0 21 (dk_at dksX6_look_2 5 rfl rfl)
theorem dX6_look_56 : decode cX6_look 56 = .ok (.iload_n 1, 1) := dk_27 (dk_at dksX6_look_2 8 rfl rfl)
theorem dX6_look_57 : decode cX6_look 57 = .ok (.bipush 20, 2) := dk_16 20 (dk_at dksX6_look_2 9 rfl rfl)
theorem dX6_look_59 : decode cX6_look 59 = .ok (.if_icmp .eq 15, 3) := dk_159 0 15 (dk_at dksX6_look_2 11 rfl rfl)
theorem dX6_look_62 : decode cX6_look 62 = .ok (.aload_n 0, 1) := dk_42 (dk_at dksX6_look_2 14 rfl rfl)
theorem dX6_look_63 : decode cX6_look 63 = .ok (.getfield 13, 3) := dk_180 0 13 (dk_at dksX6_look_2 15 rfl rfl)
theorem dX6_look_66 : decode cX6_look 66 = .ok (.iload_n 1, 1) := dk_27 (dk_at dksX6_look_2 18 rfl rfl)
theorem dX6_look_67 : decode cX6_look 67 = .ok (.bipush 10, 2) := dk_16 10 (dk_at dksX6_look_2 19 rfl rfl)
theorem dX6_look_69 : decode cX6_look 69 = .ok (.isub, 1) := dk_100 (dk_at dksX6_look_2 21 rfl rfl)
theorem dX6_look_70 : decode cX6_look 70 = .ok (.iaload, 1) := dk_46 (dk_at dksX6_look_2 22 rfl rfl)
theorem dX6_look_71 : decode cX6_look 71 = .ok (.goto 4, 3) := dk_167 0 4 (dk_at dksX6_look_3 0 rfl rfl)
theorem dX6_look_74 : decode cX6_look 74 = .ok (.iconst (-1), 1) := dk_2 (dk_at dksX6_look_3 3 rfl rfl)
theorem dX6_look_75 : decode cX6_look 75 = .ok (.ireturn, 1) := dk_172 (dk_at dksX6_look_3 4 rfl rfl)
theorem q124 : (Jvm.Cond.initialized "NotchSticksModel") ∈ lw_all := lw_g (lw_at lw_m1 14 rfl) rfl
theorem q220 : (Jvm.Cond.selects "NotchSticksModel" ({ cls := "java/lang/Object", name := "getClass", desc := "()Ljava/lang/Class;" } : Jvm.MethodName) ({ cls := "java/lang/Object", name := "getClass", desc := "()Ljava/lang/Class;" } : Jvm.MethodName)) ∈ lw_all := lw_g (lw_at lw_m1 110 rfl) rfl
theorem q1145 : (Jvm.Cond.instantiable "NotchSticksModel" (56 : Nat)) ∈ lw_all := lw_g (lw_at lw_m5 75 rfl) rfl
theorem q1147 : (Jvm.Cond.instanceMethod ({ cls := "NotchSticksModel", name := "<init>", desc := "()V" } : Jvm.MethodName)) ∈ lw_all := lw_g (lw_at lw_m5 77 rfl) rfl
theorem q1148 : (Jvm.Cond.code ({ cls := "NotchSticksModel", name := "<init>", desc := "()V" } : Jvm.MethodName) prog_17_method_1_code (1 : Nat) (Option.none : Option Jvm.ClassFile.FieldType)) ∈ lw_all := lw_g (lw_at lw_m5 78 rfl) rfl
theorem q1149 : (Jvm.Cond.methodLink "NotchSticksModel" (1 : Nat) ({ cls := "java/lang/Object", name := "<init>", desc := "()V" } : Jvm.MethodName)) ∈ lw_all := lw_g (lw_at lw_m5 79 rfl) rfl
theorem q1150 : (Jvm.Cond.fieldLink "NotchSticksModel" (90 : Nat) "NotchSticksModel" "told" "I") ∈ lw_all := lw_g (lw_at lw_m5 80 rfl) rfl
theorem q1151 : (Jvm.Cond.fieldLink "NotchSticksModel" (93 : Nat) "NotchSticksModel" "state" "I") ∈ lw_all := lw_g (lw_at lw_m5 81 rfl) rfl
theorem q1152 : (Jvm.Cond.fieldLink "NotchSticksModel" (98 : Nat) "NotchSticksModel" "many" "I") ∈ lw_all := lw_g (lw_at lw_m5 82 rfl) rfl
theorem q1153 : (Jvm.Cond.fieldLink "NotchSticksModel" (222 : Nat) "NotchSticksModel" "year" "I") ∈ lw_all := lw_g (lw_at lw_m5 83 rfl) rfl
theorem q1154 : (Jvm.Cond.fieldLink "NotchSticksModel" (264 : Nat) "NotchSticksModel" "deals" "I") ∈ lw_all := lw_g (lw_at lw_m5 84 rfl) rfl
theorem q1155 : (Jvm.Cond.fieldLink "NotchSticksModel" (7 : Nat) "NotchSticksModel" "facts" "[I") ∈ lw_all := lw_g (lw_at lw_m5 85 rfl) rfl
theorem q1156 : (Jvm.Cond.fieldLink "NotchSticksModel" (13 : Nat) "NotchSticksModel" "settings" "[I") ∈ lw_all := lw_g (lw_at lw_m5 86 rfl) rfl
theorem q1157 : (Jvm.Cond.fieldLink "NotchSticksModel" (16 : Nat) "NotchSticksModel" "book" "[I") ∈ lw_all := lw_g (lw_at lw_m5 87 rfl) rfl
theorem q1158 : (Jvm.Cond.fieldLink "NotchSticksModel" (19 : Nat) "NotchSticksModel" "tape" "[I") ∈ lw_all := lw_g (lw_at lw_m5 88 rfl) rfl
theorem q1159 : (Jvm.Cond.fieldLink "NotchSticksModel" (121 : Nat) "NotchSticksModel" "taped" "I") ∈ lw_all := lw_g (lw_at lw_m5 89 rfl) rfl
theorem q1160 : (Jvm.Cond.fieldLink "NotchSticksModel" (128 : Nat) "NotchSticksModel" "spot" "I") ∈ lw_all := lw_g (lw_at lw_m5 90 rfl) rfl
theorem q1161 : (Jvm.Cond.fieldLink "NotchSticksModel" (134 : Nat) "NotchSticksModel" "from" "I") ∈ lw_all := lw_g (lw_at lw_m5 91 rfl) rfl
theorem q1162 : (Jvm.Cond.fieldLink "NotchSticksModel" (137 : Nat) "NotchSticksModel" "token" "I") ∈ lw_all := lw_g (lw_at lw_m5 92 rfl) rfl
theorem q1163 : (Jvm.Cond.fieldLink "NotchSticksModel" (140 : Nat) "NotchSticksModel" "value" "I") ∈ lw_all := lw_g (lw_at lw_m5 93 rfl) rfl
theorem q1164 : (Jvm.Cond.fieldLink "NotchSticksModel" (22 : Nat) "NotchSticksModel" "words" "[I") ∈ lw_all := lw_g (lw_at lw_m5 94 rfl) rfl
theorem q1165 : (Jvm.Cond.fieldLink "NotchSticksModel" (25 : Nat) "NotchSticksModel" "lineMany" "[I") ∈ lw_all := lw_g (lw_at lw_m5 95 rfl) rfl
theorem q1166 : (Jvm.Cond.fieldLink "NotchSticksModel" (28 : Nat) "NotchSticksModel" "lineWord" "[I") ∈ lw_all := lw_g (lw_at lw_m5 96 rfl) rfl
theorem q1167 : (Jvm.Cond.fieldLink "NotchSticksModel" (31 : Nat) "NotchSticksModel" "lineFrom" "[I") ∈ lw_all := lw_g (lw_at lw_m5 97 rfl) rfl
theorem q1168 : (Jvm.Cond.fieldLink "NotchSticksModel" (34 : Nat) "NotchSticksModel" "lineTo" "[I") ∈ lw_all := lw_g (lw_at lw_m5 98 rfl) rfl
theorem q1169 : (Jvm.Cond.fieldLink "NotchSticksModel" (37 : Nat) "NotchSticksModel" "op" "[I") ∈ lw_all := lw_g (lw_at lw_m5 99 rfl) rfl
theorem q1170 : (Jvm.Cond.fieldLink "NotchSticksModel" (40 : Nat) "NotchSticksModel" "arg" "[I") ∈ lw_all := lw_g (lw_at lw_m5 100 rfl) rfl
theorem q1171 : (Jvm.Cond.fieldLink "NotchSticksModel" (149 : Nat) "NotchSticksModel" "isLaw" "Z") ∈ lw_all := lw_g (lw_at lw_m5 101 rfl) rfl
theorem q1172 : (Jvm.Cond.fieldLink "NotchSticksModel" (165 : Nat) "NotchSticksModel" "codes" "I") ∈ lw_all := lw_g (lw_at lw_m5 102 rfl) rfl
theorem q1173 : (Jvm.Cond.fieldLink "NotchSticksModel" (194 : Nat) "NotchSticksModel" "open" "I") ∈ lw_all := lw_g (lw_at lw_m5 103 rfl) rfl
theorem q1174 : (Jvm.Cond.fieldLink "NotchSticksModel" (43 : Nat) "NotchSticksModel" "pending" "[I") ∈ lw_all := lw_g (lw_at lw_m5 104 rfl) rfl
theorem q1175 : (Jvm.Cond.fieldLink "NotchSticksModel" (191 : Nat) "NotchSticksModel" "pendings" "I") ∈ lw_all := lw_g (lw_at lw_m5 105 rfl) rfl
theorem q1176 : (Jvm.Cond.fieldLink "NotchSticksModel" (159 : Nat) "NotchSticksModel" "readFault" "I") ∈ lw_all := lw_g (lw_at lw_m5 106 rfl) rfl
theorem q1177 : (Jvm.Cond.fieldLink "NotchSticksModel" (162 : Nat) "NotchSticksModel" "readPlace" "I") ∈ lw_all := lw_g (lw_at lw_m5 107 rfl) rfl
theorem q1178 : (Jvm.Cond.fieldLink "NotchSticksModel" (212 : Nat) "NotchSticksModel" "faultKind" "I") ∈ lw_all := lw_g (lw_at lw_m5 108 rfl) rfl
theorem q1179 : (Jvm.Cond.fieldLink "NotchSticksModel" (46 : Nat) "NotchSticksModel" "faultPlace" "I") ∈ lw_all := lw_g (lw_at lw_m5 109 rfl) rfl
theorem q1180 : (Jvm.Cond.fieldLink "NotchSticksModel" (50 : Nat) "NotchSticksModel" "asked" "[I") ∈ lw_all := lw_g (lw_at lw_m5 110 rfl) rfl
theorem q1181 : (Jvm.Cond.fieldLink "NotchSticksModel" (53 : Nat) "NotchSticksModel" "stack" "[I") ∈ lw_all := lw_g (lw_at lw_m5 111 rfl) rfl
theorem q1182 : (Jvm.Cond.fieldLink "NotchSticksModel" (252 : Nat) "NotchSticksModel" "breaks" "I") ∈ lw_all := lw_g (lw_at lw_m5 112 rfl) rfl
theorem q1183 : (Jvm.Cond.fieldLink "NotchSticksModel" (261 : Nat) "NotchSticksModel" "unlawful" "I") ∈ lw_all := lw_g (lw_at lw_m5 113 rfl) rfl
theorem q1184 : (Jvm.Cond.fieldLink "NotchSticksModel" (56 : Nat) "NotchSticksModel" "worths" "[J") ∈ lw_all := lw_g (lw_at lw_m5 114 rfl) rfl
theorem q1185 : (Jvm.Cond.fieldLink "NotchSticksModel" (60 : Nat) "NotchSticksModel" "nextWorths" "[J") ∈ lw_all := lw_g (lw_at lw_m5 115 rfl) rfl
theorem q1186 : (Jvm.Cond.fieldLink "NotchSticksModel" (63 : Nat) "NotchSticksModel" "ways" "[J") ∈ lw_all := lw_g (lw_at lw_m5 116 rfl) rfl
theorem q1187 : (Jvm.Cond.fieldLink "NotchSticksModel" (66 : Nat) "NotchSticksModel" "nextWays" "[J") ∈ lw_all := lw_g (lw_at lw_m5 117 rfl) rfl
theorem q1188 : (Jvm.Cond.fieldLink "NotchSticksModel" (308 : Nat) "NotchSticksModel" "broken" "J") ∈ lw_all := lw_g (lw_at lw_m5 118 rfl) rfl
theorem q1189 : (Jvm.Cond.fieldLink "NotchSticksModel" (312 : Nat) "NotchSticksModel" "gained" "J") ∈ lw_all := lw_g (lw_at lw_m5 119 rfl) rfl
theorem q1190 : (Jvm.Cond.fieldLink "NotchSticksModel" (315 : Nat) "NotchSticksModel" "together" "J") ∈ lw_all := lw_g (lw_at lw_m5 120 rfl) rfl
theorem q1191 : (Jvm.Cond.fieldLink "NotchSticksModel" (69 : Nat) "NotchSticksModel" "twos" "[J") ∈ lw_all := lw_g (lw_at lw_m5 121 rfl) rfl
theorem q1192 : (Jvm.Cond.fieldLink "NotchSticksModel" (72 : Nat) "NotchSticksModel" "nextTwos" "[J") ∈ lw_all := lw_g (lw_at lw_m5 122 rfl) rfl
theorem q1193 : (Jvm.Cond.fieldLink "NotchSticksModel" (345 : Nat) "NotchSticksModel" "oneGain" "J") ∈ lw_all := lw_g (lw_at lw_m5 123 rfl) rfl
theorem q1194 : (Jvm.Cond.fieldLink "NotchSticksModel" (348 : Nat) "NotchSticksModel" "otherGain" "J") ∈ lw_all := lw_g (lw_at lw_m5 124 rfl) rfl
theorem q1195 : (Jvm.Cond.fieldLink "NotchSticksModel" (355 : Nat) "NotchSticksModel" "firstSum" "J") ∈ lw_all := lw_g (lw_at lw_m5 125 rfl) rfl
theorem q1196 : (Jvm.Cond.fieldLink "NotchSticksModel" (358 : Nat) "NotchSticksModel" "secondSum" "J") ∈ lw_all := lw_g (lw_at lw_m5 126 rfl) rfl
theorem q1197 : (Jvm.Cond.fieldLink "NotchSticksModel" (75 : Nat) "NotchSticksModel" "firstGains" "[J") ∈ lw_all := lw_g (lw_at lw_m5 127 rfl) rfl
theorem q1198 : (Jvm.Cond.fieldLink "NotchSticksModel" (78 : Nat) "NotchSticksModel" "secondGains" "[J") ∈ lw_all := lw_g (lw_at lw_m5 128 rfl) rfl
theorem q1199 : (Jvm.Cond.fieldLink "NotchSticksModel" (388 : Nat) "NotchSticksModel" "isPutting" "Z") ∈ lw_all := lw_g (lw_at lw_m5 129 rfl) rfl
theorem q1200 : (Jvm.Cond.fieldLink "NotchSticksModel" (385 : Nat) "NotchSticksModel" "asideAt" "I") ∈ lw_all := lw_g (lw_at lw_m5 130 rfl) rfl
theorem q1201 : (Jvm.Cond.fieldLink "NotchSticksModel" (81 : Nat) "NotchSticksModel" "aside" "[I") ∈ lw_all := lw_g (lw_at lw_m5 131 rfl) rfl
theorem q1202 : (Jvm.Cond.fieldLink "NotchSticksModel" (407 : Nat) "NotchSticksModel" "hasImage" "Z") ∈ lw_all := lw_g (lw_at lw_m5 132 rfl) rfl
theorem q1203 : (Jvm.Cond.fieldLink "NotchSticksModel" (84 : Nat) "NotchSticksModel" "images" "[I") ∈ lw_all := lw_g (lw_at lw_m5 133 rfl) rfl
theorem q1204 : (Jvm.Cond.fieldLink "NotchSticksModel" (87 : Nat) "NotchSticksModel" "imageTexts" "[I") ∈ lw_all := lw_g (lw_at lw_m5 134 rfl) rfl
theorem q1205 : (Jvm.Cond.fieldLink "NotchSticksModel" (404 : Nat) "NotchSticksModel" "textAt" "I") ∈ lw_all := lw_g (lw_at lw_m5 135 rfl) rfl
theorem q1206 : (Jvm.Cond.lays "NotchSticksModel" "NotchSticksModel" "told" "I") ∈ lw_all := lw_g (lw_at lw_m5 136 rfl) rfl
theorem q1207 : (Jvm.Cond.soleField "NotchSticksModel" "told") ∈ lw_all := lw_g (lw_at lw_m5 137 rfl) rfl
theorem q1208 : (Jvm.Cond.lays "NotchSticksModel" "NotchSticksModel" "state" "I") ∈ lw_all := lw_g (lw_at lw_m5 138 rfl) rfl
theorem q1209 : (Jvm.Cond.soleField "NotchSticksModel" "state") ∈ lw_all := lw_g (lw_at lw_m5 139 rfl) rfl
theorem q1210 : (Jvm.Cond.lays "NotchSticksModel" "NotchSticksModel" "many" "I") ∈ lw_all := lw_g (lw_at lw_m5 140 rfl) rfl
theorem q1211 : (Jvm.Cond.soleField "NotchSticksModel" "many") ∈ lw_all := lw_g (lw_at lw_m5 141 rfl) rfl
theorem q1212 : (Jvm.Cond.lays "NotchSticksModel" "NotchSticksModel" "year" "I") ∈ lw_all := lw_g (lw_at lw_m5 142 rfl) rfl
theorem q1213 : (Jvm.Cond.soleField "NotchSticksModel" "year") ∈ lw_all := lw_g (lw_at lw_m5 143 rfl) rfl
theorem q1214 : (Jvm.Cond.lays "NotchSticksModel" "NotchSticksModel" "deals" "I") ∈ lw_all := lw_g (lw_at lw_m5 144 rfl) rfl
theorem q1215 : (Jvm.Cond.soleField "NotchSticksModel" "deals") ∈ lw_all := lw_g (lw_at lw_m5 145 rfl) rfl
theorem q1216 : (Jvm.Cond.laysFinal "NotchSticksModel" "NotchSticksModel" "facts" "[I") ∈ lw_all := lw_g (lw_at lw_m5 146 rfl) rfl
theorem q1217 : (Jvm.Cond.soleField "NotchSticksModel" "facts") ∈ lw_all := lw_g (lw_at lw_m5 147 rfl) rfl
theorem q1218 : (Jvm.Cond.laysFinal "NotchSticksModel" "NotchSticksModel" "settings" "[I") ∈ lw_all := lw_g (lw_at lw_m5 148 rfl) rfl
theorem q1219 : (Jvm.Cond.soleField "NotchSticksModel" "settings") ∈ lw_all := lw_g (lw_at lw_m5 149 rfl) rfl
theorem q1220 : (Jvm.Cond.laysFinal "NotchSticksModel" "NotchSticksModel" "book" "[I") ∈ lw_all := lw_g (lw_at lw_m5 150 rfl) rfl
theorem q1221 : (Jvm.Cond.soleField "NotchSticksModel" "book") ∈ lw_all := lw_g (lw_at lw_m5 151 rfl) rfl
theorem q1222 : (Jvm.Cond.laysFinal "NotchSticksModel" "NotchSticksModel" "tape" "[I") ∈ lw_all := lw_g (lw_at lw_m5 152 rfl) rfl
theorem q1223 : (Jvm.Cond.soleField "NotchSticksModel" "tape") ∈ lw_all := lw_g (lw_at lw_m5 153 rfl) rfl
theorem q1224 : (Jvm.Cond.lays "NotchSticksModel" "NotchSticksModel" "taped" "I") ∈ lw_all := lw_g (lw_at lw_m5 154 rfl) rfl
theorem q1225 : (Jvm.Cond.soleField "NotchSticksModel" "taped") ∈ lw_all := lw_g (lw_at lw_m5 155 rfl) rfl
theorem q1226 : (Jvm.Cond.lays "NotchSticksModel" "NotchSticksModel" "spot" "I") ∈ lw_all := lw_g (lw_at lw_m5 156 rfl) rfl
theorem q1227 : (Jvm.Cond.soleField "NotchSticksModel" "spot") ∈ lw_all := lw_g (lw_at lw_m5 157 rfl) rfl
theorem q1228 : (Jvm.Cond.lays "NotchSticksModel" "NotchSticksModel" "from" "I") ∈ lw_all := lw_g (lw_at lw_m5 158 rfl) rfl
theorem q1229 : (Jvm.Cond.soleField "NotchSticksModel" "from") ∈ lw_all := lw_g (lw_at lw_m5 159 rfl) rfl
theorem q1230 : (Jvm.Cond.lays "NotchSticksModel" "NotchSticksModel" "token" "I") ∈ lw_all := lw_g (lw_at lw_m5 160 rfl) rfl
theorem q1231 : (Jvm.Cond.soleField "NotchSticksModel" "token") ∈ lw_all := lw_g (lw_at lw_m5 161 rfl) rfl
theorem q1232 : (Jvm.Cond.lays "NotchSticksModel" "NotchSticksModel" "value" "I") ∈ lw_all := lw_g (lw_at lw_m5 162 rfl) rfl
theorem q1233 : (Jvm.Cond.soleField "NotchSticksModel" "value") ∈ lw_all := lw_g (lw_at lw_m5 163 rfl) rfl
theorem q1234 : (Jvm.Cond.laysFinal "NotchSticksModel" "NotchSticksModel" "words" "[I") ∈ lw_all := lw_g (lw_at lw_m5 164 rfl) rfl
theorem q1235 : (Jvm.Cond.soleField "NotchSticksModel" "words") ∈ lw_all := lw_g (lw_at lw_m5 165 rfl) rfl
theorem q1236 : (Jvm.Cond.laysFinal "NotchSticksModel" "NotchSticksModel" "lineMany" "[I") ∈ lw_all := lw_g (lw_at lw_m5 166 rfl) rfl
theorem q1237 : (Jvm.Cond.soleField "NotchSticksModel" "lineMany") ∈ lw_all := lw_g (lw_at lw_m5 167 rfl) rfl
theorem q1238 : (Jvm.Cond.laysFinal "NotchSticksModel" "NotchSticksModel" "lineWord" "[I") ∈ lw_all := lw_g (lw_at lw_m5 168 rfl) rfl
theorem q1239 : (Jvm.Cond.soleField "NotchSticksModel" "lineWord") ∈ lw_all := lw_g (lw_at lw_m5 169 rfl) rfl
theorem q1240 : (Jvm.Cond.laysFinal "NotchSticksModel" "NotchSticksModel" "lineFrom" "[I") ∈ lw_all := lw_g (lw_at lw_m5 170 rfl) rfl
theorem q1241 : (Jvm.Cond.soleField "NotchSticksModel" "lineFrom") ∈ lw_all := lw_g (lw_at lw_m5 171 rfl) rfl
theorem q1242 : (Jvm.Cond.laysFinal "NotchSticksModel" "NotchSticksModel" "lineTo" "[I") ∈ lw_all := lw_g (lw_at lw_m5 172 rfl) rfl
theorem q1243 : (Jvm.Cond.soleField "NotchSticksModel" "lineTo") ∈ lw_all := lw_g (lw_at lw_m5 173 rfl) rfl
theorem q1244 : (Jvm.Cond.laysFinal "NotchSticksModel" "NotchSticksModel" "op" "[I") ∈ lw_all := lw_g (lw_at lw_m5 174 rfl) rfl
theorem q1245 : (Jvm.Cond.soleField "NotchSticksModel" "op") ∈ lw_all := lw_g (lw_at lw_m5 175 rfl) rfl
theorem q1246 : (Jvm.Cond.laysFinal "NotchSticksModel" "NotchSticksModel" "arg" "[I") ∈ lw_all := lw_g (lw_at lw_m5 176 rfl) rfl
theorem q1247 : (Jvm.Cond.soleField "NotchSticksModel" "arg") ∈ lw_all := lw_g (lw_at lw_m5 177 rfl) rfl
theorem q1248 : (Jvm.Cond.lays "NotchSticksModel" "NotchSticksModel" "isLaw" "Z") ∈ lw_all := lw_g (lw_at lw_m5 178 rfl) rfl
theorem q1249 : (Jvm.Cond.soleField "NotchSticksModel" "isLaw") ∈ lw_all := lw_g (lw_at lw_m5 179 rfl) rfl
theorem q1250 : (Jvm.Cond.lays "NotchSticksModel" "NotchSticksModel" "codes" "I") ∈ lw_all := lw_g (lw_at lw_m5 180 rfl) rfl
theorem q1251 : (Jvm.Cond.soleField "NotchSticksModel" "codes") ∈ lw_all := lw_g (lw_at lw_m5 181 rfl) rfl
theorem q1252 : (Jvm.Cond.lays "NotchSticksModel" "NotchSticksModel" "open" "I") ∈ lw_all := lw_g (lw_at lw_m5 182 rfl) rfl
theorem q1253 : (Jvm.Cond.soleField "NotchSticksModel" "open") ∈ lw_all := lw_g (lw_at lw_m5 183 rfl) rfl
theorem q1254 : (Jvm.Cond.laysFinal "NotchSticksModel" "NotchSticksModel" "pending" "[I") ∈ lw_all := lw_g (lw_at lw_m5 184 rfl) rfl
theorem q1255 : (Jvm.Cond.soleField "NotchSticksModel" "pending") ∈ lw_all := lw_g (lw_at lw_m5 185 rfl) rfl
theorem q1256 : (Jvm.Cond.lays "NotchSticksModel" "NotchSticksModel" "pendings" "I") ∈ lw_all := lw_g (lw_at lw_m5 186 rfl) rfl
theorem q1257 : (Jvm.Cond.soleField "NotchSticksModel" "pendings") ∈ lw_all := lw_g (lw_at lw_m5 187 rfl) rfl
theorem q1258 : (Jvm.Cond.lays "NotchSticksModel" "NotchSticksModel" "readFault" "I") ∈ lw_all := lw_g (lw_at lw_m5 188 rfl) rfl
theorem q1259 : (Jvm.Cond.soleField "NotchSticksModel" "readFault") ∈ lw_all := lw_g (lw_at lw_m5 189 rfl) rfl
theorem q1260 : (Jvm.Cond.lays "NotchSticksModel" "NotchSticksModel" "readPlace" "I") ∈ lw_all := lw_g (lw_at lw_m5 190 rfl) rfl
theorem q1261 : (Jvm.Cond.soleField "NotchSticksModel" "readPlace") ∈ lw_all := lw_g (lw_at lw_m5 191 rfl) rfl
theorem q1262 : (Jvm.Cond.lays "NotchSticksModel" "NotchSticksModel" "faultKind" "I") ∈ lw_all := lw_g (lw_at lw_m5 192 rfl) rfl
theorem q1263 : (Jvm.Cond.soleField "NotchSticksModel" "faultKind") ∈ lw_all := lw_g (lw_at lw_m5 193 rfl) rfl
theorem q1264 : (Jvm.Cond.lays "NotchSticksModel" "NotchSticksModel" "faultPlace" "I") ∈ lw_all := lw_g (lw_at lw_m5 194 rfl) rfl
theorem q1265 : (Jvm.Cond.soleField "NotchSticksModel" "faultPlace") ∈ lw_all := lw_g (lw_at lw_m5 195 rfl) rfl
theorem q1266 : (Jvm.Cond.laysFinal "NotchSticksModel" "NotchSticksModel" "asked" "[I") ∈ lw_all := lw_g (lw_at lw_m5 196 rfl) rfl
theorem q1267 : (Jvm.Cond.soleField "NotchSticksModel" "asked") ∈ lw_all := lw_g (lw_at lw_m5 197 rfl) rfl
theorem q1268 : (Jvm.Cond.laysFinal "NotchSticksModel" "NotchSticksModel" "stack" "[I") ∈ lw_all := lw_g (lw_at lw_m5 198 rfl) rfl
theorem q1269 : (Jvm.Cond.soleField "NotchSticksModel" "stack") ∈ lw_all := lw_g (lw_at lw_m5 199 rfl) rfl
theorem q1270 : (Jvm.Cond.lays "NotchSticksModel" "NotchSticksModel" "breaks" "I") ∈ lw_all := lw_g (lw_at lw_m5 200 rfl) rfl
theorem q1271 : (Jvm.Cond.soleField "NotchSticksModel" "breaks") ∈ lw_all := lw_g (lw_at lw_m5 201 rfl) rfl
theorem q1272 : (Jvm.Cond.lays "NotchSticksModel" "NotchSticksModel" "unlawful" "I") ∈ lw_all := lw_g (lw_at lw_m5 202 rfl) rfl
theorem q1273 : (Jvm.Cond.soleField "NotchSticksModel" "unlawful") ∈ lw_all := lw_g (lw_at lw_m5 203 rfl) rfl
theorem q1274 : (Jvm.Cond.laysFinal "NotchSticksModel" "NotchSticksModel" "worths" "[J") ∈ lw_all := lw_g (lw_at lw_m5 204 rfl) rfl
theorem q1275 : (Jvm.Cond.soleField "NotchSticksModel" "worths") ∈ lw_all := lw_g (lw_at lw_m5 205 rfl) rfl
theorem q1276 : (Jvm.Cond.laysFinal "NotchSticksModel" "NotchSticksModel" "nextWorths" "[J") ∈ lw_all := lw_g (lw_at lw_m5 206 rfl) rfl
theorem q1277 : (Jvm.Cond.soleField "NotchSticksModel" "nextWorths") ∈ lw_all := lw_g (lw_at lw_m5 207 rfl) rfl
theorem q1278 : (Jvm.Cond.laysFinal "NotchSticksModel" "NotchSticksModel" "ways" "[J") ∈ lw_all := lw_g (lw_at lw_m5 208 rfl) rfl
theorem q1279 : (Jvm.Cond.soleField "NotchSticksModel" "ways") ∈ lw_all := lw_g (lw_at lw_m5 209 rfl) rfl
theorem q1280 : (Jvm.Cond.laysFinal "NotchSticksModel" "NotchSticksModel" "nextWays" "[J") ∈ lw_all := lw_g (lw_at lw_m5 210 rfl) rfl
theorem q1281 : (Jvm.Cond.soleField "NotchSticksModel" "nextWays") ∈ lw_all := lw_g (lw_at lw_m5 211 rfl) rfl
theorem q1282 : (Jvm.Cond.lays "NotchSticksModel" "NotchSticksModel" "broken" "J") ∈ lw_all := lw_g (lw_at lw_m5 212 rfl) rfl
theorem q1283 : (Jvm.Cond.soleField "NotchSticksModel" "broken") ∈ lw_all := lw_g (lw_at lw_m5 213 rfl) rfl
theorem q1284 : (Jvm.Cond.lays "NotchSticksModel" "NotchSticksModel" "gained" "J") ∈ lw_all := lw_g (lw_at lw_m5 214 rfl) rfl
theorem q1285 : (Jvm.Cond.soleField "NotchSticksModel" "gained") ∈ lw_all := lw_g (lw_at lw_m5 215 rfl) rfl
theorem q1286 : (Jvm.Cond.lays "NotchSticksModel" "NotchSticksModel" "together" "J") ∈ lw_all := lw_g (lw_at lw_m5 216 rfl) rfl
theorem q1287 : (Jvm.Cond.soleField "NotchSticksModel" "together") ∈ lw_all := lw_g (lw_at lw_m5 217 rfl) rfl
theorem q1288 : (Jvm.Cond.laysFinal "NotchSticksModel" "NotchSticksModel" "twos" "[J") ∈ lw_all := lw_g (lw_at lw_m5 218 rfl) rfl
theorem q1289 : (Jvm.Cond.soleField "NotchSticksModel" "twos") ∈ lw_all := lw_g (lw_at lw_m5 219 rfl) rfl
theorem q1290 : (Jvm.Cond.laysFinal "NotchSticksModel" "NotchSticksModel" "nextTwos" "[J") ∈ lw_all := lw_g (lw_at lw_m5 220 rfl) rfl
theorem q1291 : (Jvm.Cond.soleField "NotchSticksModel" "nextTwos") ∈ lw_all := lw_g (lw_at lw_m5 221 rfl) rfl
theorem q1292 : (Jvm.Cond.lays "NotchSticksModel" "NotchSticksModel" "oneGain" "J") ∈ lw_all := lw_g (lw_at lw_m5 222 rfl) rfl
theorem q1293 : (Jvm.Cond.soleField "NotchSticksModel" "oneGain") ∈ lw_all := lw_g (lw_at lw_m5 223 rfl) rfl
theorem q1294 : (Jvm.Cond.lays "NotchSticksModel" "NotchSticksModel" "otherGain" "J") ∈ lw_all := lw_g (lw_at lw_m5 224 rfl) rfl
theorem q1295 : (Jvm.Cond.soleField "NotchSticksModel" "otherGain") ∈ lw_all := lw_g (lw_at lw_m5 225 rfl) rfl
theorem q1296 : (Jvm.Cond.lays "NotchSticksModel" "NotchSticksModel" "firstSum" "J") ∈ lw_all := lw_g (lw_at lw_m5 226 rfl) rfl
theorem q1297 : (Jvm.Cond.soleField "NotchSticksModel" "firstSum") ∈ lw_all := lw_g (lw_at lw_m5 227 rfl) rfl
theorem q1298 : (Jvm.Cond.lays "NotchSticksModel" "NotchSticksModel" "secondSum" "J") ∈ lw_all := lw_g (lw_at lw_m5 228 rfl) rfl
theorem q1299 : (Jvm.Cond.soleField "NotchSticksModel" "secondSum") ∈ lw_all := lw_g (lw_at lw_m5 229 rfl) rfl
theorem q1300 : (Jvm.Cond.laysFinal "NotchSticksModel" "NotchSticksModel" "firstGains" "[J") ∈ lw_all := lw_g (lw_at lw_m5 230 rfl) rfl
theorem q1301 : (Jvm.Cond.soleField "NotchSticksModel" "firstGains") ∈ lw_all := lw_g (lw_at lw_m5 231 rfl) rfl
theorem q1302 : (Jvm.Cond.laysFinal "NotchSticksModel" "NotchSticksModel" "secondGains" "[J") ∈ lw_all := lw_g (lw_at lw_m5 232 rfl) rfl
theorem q1303 : (Jvm.Cond.soleField "NotchSticksModel" "secondGains") ∈ lw_all := lw_g (lw_at lw_m5 233 rfl) rfl
theorem q1304 : (Jvm.Cond.lays "NotchSticksModel" "NotchSticksModel" "isPutting" "Z") ∈ lw_all := lw_g (lw_at lw_m5 234 rfl) rfl
theorem q1305 : (Jvm.Cond.soleField "NotchSticksModel" "isPutting") ∈ lw_all := lw_g (lw_at lw_m5 235 rfl) rfl
theorem q1306 : (Jvm.Cond.lays "NotchSticksModel" "NotchSticksModel" "asideAt" "I") ∈ lw_all := lw_g (lw_at lw_m5 236 rfl) rfl
theorem q1307 : (Jvm.Cond.soleField "NotchSticksModel" "asideAt") ∈ lw_all := lw_g (lw_at lw_m5 237 rfl) rfl
theorem q1308 : (Jvm.Cond.laysFinal "NotchSticksModel" "NotchSticksModel" "aside" "[I") ∈ lw_all := lw_g (lw_at lw_m5 238 rfl) rfl
theorem q1309 : (Jvm.Cond.soleField "NotchSticksModel" "aside") ∈ lw_all := lw_g (lw_at lw_m5 239 rfl) rfl
theorem q1310 : (Jvm.Cond.lays "NotchSticksModel" "NotchSticksModel" "hasImage" "Z") ∈ lw_all := lw_g (lw_at lw_m6 0 rfl) rfl
theorem q1311 : (Jvm.Cond.soleField "NotchSticksModel" "hasImage") ∈ lw_all := lw_g (lw_at lw_m6 1 rfl) rfl
theorem q1312 : (Jvm.Cond.laysFinal "NotchSticksModel" "NotchSticksModel" "images" "[I") ∈ lw_all := lw_g (lw_at lw_m6 2 rfl) rfl
theorem q1313 : (Jvm.Cond.soleField "NotchSticksModel" "images") ∈ lw_all := lw_g (lw_at lw_m6 3 rfl) rfl
theorem q1314 : (Jvm.Cond.laysFinal "NotchSticksModel" "NotchSticksModel" "imageTexts" "[I") ∈ lw_all := lw_g (lw_at lw_m6 4 rfl) rfl
theorem q1315 : (Jvm.Cond.soleField "NotchSticksModel" "imageTexts") ∈ lw_all := lw_g (lw_at lw_m6 5 rfl) rfl
theorem q1316 : (Jvm.Cond.lays "NotchSticksModel" "NotchSticksModel" "textAt" "I") ∈ lw_all := lw_g (lw_at lw_m6 6 rfl) rfl
theorem q1317 : (Jvm.Cond.soleField "NotchSticksModel" "textAt") ∈ lw_all := lw_g (lw_at lw_m6 7 rfl) rfl
theorem q1318 : (Jvm.Cond.superclass "NotchSticksModel" "java/lang/Object") ∈ lw_all := lw_g (lw_at lw_m6 8 rfl) rfl
theorem q1320 : (Jvm.Cond.instanceMethod ({ cls := "NotchSticksModel", name := "state", desc := "(I)I" } : Jvm.MethodName)) ∈ lw_all := lw_g (lw_at lw_m6 10 rfl) rfl
theorem q1321 : (Jvm.Cond.selects "NotchSticksModel" ({ cls := "NotchSticksModel", name := "state", desc := "(I)I" } : Jvm.MethodName) ({ cls := "NotchSticksModel", name := "state", desc := "(I)I" } : Jvm.MethodName)) ∈ lw_all := lw_g (lw_at lw_m6 11 rfl) rfl
theorem q1322 : (Jvm.Cond.code ({ cls := "NotchSticksModel", name := "state", desc := "(I)I" } : Jvm.MethodName) prog_17_method_4_code (3 : Nat) (Option.some Jvm.ClassFile.FieldType.int)) ∈ lw_all := lw_g (lw_at lw_m6 12 rfl) rfl
theorem q1324 : (Jvm.Cond.instanceMethod ({ cls := "NotchSticksModel", name := "one", desc := "(II)I" } : Jvm.MethodName)) ∈ lw_all := lw_g (lw_at lw_m6 14 rfl) rfl
theorem q1325 : (Jvm.Cond.selects "NotchSticksModel" ({ cls := "NotchSticksModel", name := "one", desc := "(II)I" } : Jvm.MethodName) ({ cls := "NotchSticksModel", name := "one", desc := "(II)I" } : Jvm.MethodName)) ∈ lw_all := lw_g (lw_at lw_m6 15 rfl) rfl
theorem q1326 : (Jvm.Cond.code ({ cls := "NotchSticksModel", name := "one", desc := "(II)I" } : Jvm.MethodName) prog_17_method_12_code (4 : Nat) (Option.some Jvm.ClassFile.FieldType.int)) ∈ lw_all := lw_g (lw_at lw_m6 16 rfl) rfl
theorem q1327 : (Jvm.Cond.methodLink "NotchSticksModel" (109 : Nat) ({ cls := "NotchSticksModel", name := "isIn", desc := "(III)Z" } : Jvm.MethodName)) ∈ lw_all := lw_g (lw_at lw_m6 17 rfl) rfl
theorem q1328 : (Jvm.Cond.privateMethod ({ cls := "NotchSticksModel", name := "isIn", desc := "(III)Z" } : Jvm.MethodName)) ∈ lw_tbl := lw_at lw_m6 18 rfl
theorem q1329 : (Jvm.Cond.instanceMethod ({ cls := "NotchSticksModel", name := "isIn", desc := "(III)Z" } : Jvm.MethodName)) ∈ lw_all := lw_g (lw_at lw_m6 19 rfl) rfl
theorem q1330 : (Jvm.Cond.code ({ cls := "NotchSticksModel", name := "isIn", desc := "(III)Z" } : Jvm.MethodName) prog_17_method_3_code (4 : Nat) (Option.some Jvm.ClassFile.FieldType.boolean)) ∈ lw_all := lw_g (lw_at lw_m6 20 rfl) rfl
theorem q1331 : (Jvm.Cond.methodLink "NotchSticksModel" (105 : Nat) ({ cls := "NotchSticksModel", name := "puts", desc := "(III)V" } : Jvm.MethodName)) ∈ lw_all := lw_g (lw_at lw_m6 21 rfl) rfl
theorem q1332 : (Jvm.Cond.privateMethod ({ cls := "NotchSticksModel", name := "puts", desc := "(III)V" } : Jvm.MethodName)) ∈ lw_tbl := lw_at lw_m6 22 rfl
theorem q1333 : (Jvm.Cond.instanceMethod ({ cls := "NotchSticksModel", name := "puts", desc := "(III)V" } : Jvm.MethodName)) ∈ lw_all := lw_g (lw_at lw_m6 23 rfl) rfl
theorem q1334 : (Jvm.Cond.code ({ cls := "NotchSticksModel", name := "puts", desc := "(III)V" } : Jvm.MethodName) prog_17_method_9_code (4 : Nat) (Option.none : Option Jvm.ClassFile.FieldType)) ∈ lw_all := lw_g (lw_at lw_m6 24 rfl) rfl
theorem q1336 : (Jvm.Cond.instanceMethod ({ cls := "NotchSticksModel", name := "stick", desc := "(III)Z" } : Jvm.MethodName)) ∈ lw_all := lw_g (lw_at lw_m6 26 rfl) rfl
theorem q1337 : (Jvm.Cond.selects "NotchSticksModel" ({ cls := "NotchSticksModel", name := "stick", desc := "(III)Z" } : Jvm.MethodName) ({ cls := "NotchSticksModel", name := "stick", desc := "(III)Z" } : Jvm.MethodName)) ∈ lw_all := lw_g (lw_at lw_m6 27 rfl) rfl
theorem q1338 : (Jvm.Cond.code ({ cls := "NotchSticksModel", name := "stick", desc := "(III)Z" } : Jvm.MethodName) prog_17_method_13_code (5 : Nat) (Option.some Jvm.ClassFile.FieldType.boolean)) ∈ lw_all := lw_g (lw_at lw_m6 28 rfl) rfl
theorem q1339 : (Jvm.Cond.methodLink "NotchSticksModel" (113 : Nat) ({ cls := "NotchSticksModel", name := "isOne", desc := "(I)Z" } : Jvm.MethodName)) ∈ lw_all := lw_g (lw_at lw_m6 29 rfl) rfl
theorem q1340 : (Jvm.Cond.privateMethod ({ cls := "NotchSticksModel", name := "isOne", desc := "(I)Z" } : Jvm.MethodName)) ∈ lw_tbl := lw_at lw_m6 30 rfl
theorem q1341 : (Jvm.Cond.instanceMethod ({ cls := "NotchSticksModel", name := "isOne", desc := "(I)Z" } : Jvm.MethodName)) ∈ lw_all := lw_g (lw_at lw_m6 31 rfl) rfl
theorem q1342 : (Jvm.Cond.code ({ cls := "NotchSticksModel", name := "isOne", desc := "(I)Z" } : Jvm.MethodName) prog_17_method_6_code (2 : Nat) (Option.some Jvm.ClassFile.FieldType.boolean)) ∈ lw_all := lw_g (lw_at lw_m6 32 rfl) rfl
theorem q1344 : (Jvm.Cond.instanceMethod ({ cls := "NotchSticksModel", name := "set", desc := "(II)Z" } : Jvm.MethodName)) ∈ lw_all := lw_g (lw_at lw_m6 34 rfl) rfl
theorem q1345 : (Jvm.Cond.selects "NotchSticksModel" ({ cls := "NotchSticksModel", name := "set", desc := "(II)Z" } : Jvm.MethodName) ({ cls := "NotchSticksModel", name := "set", desc := "(II)Z" } : Jvm.MethodName)) ∈ lw_all := lw_g (lw_at lw_m6 35 rfl) rfl
theorem q1346 : (Jvm.Cond.code ({ cls := "NotchSticksModel", name := "set", desc := "(II)Z" } : Jvm.MethodName) prog_17_method_15_code (3 : Nat) (Option.some Jvm.ClassFile.FieldType.boolean)) ∈ lw_all := lw_g (lw_at lw_m6 36 rfl) rfl
theorem q1347 : (Jvm.Cond.methodLink "NotchSticksModel" (117 : Nat) ({ cls := "NotchSticksModel", name := "mostOf", desc := "(I)I" } : Jvm.MethodName)) ∈ lw_all := lw_g (lw_at lw_m6 37 rfl) rfl
theorem q1348 : (Jvm.Cond.privateMethod ({ cls := "NotchSticksModel", name := "mostOf", desc := "(I)I" } : Jvm.MethodName)) ∈ lw_tbl := lw_at lw_m6 38 rfl
theorem q1349 : (Jvm.Cond.instanceMethod ({ cls := "NotchSticksModel", name := "mostOf", desc := "(I)I" } : Jvm.MethodName)) ∈ lw_all := lw_g (lw_at lw_m6 39 rfl) rfl
theorem q1350 : (Jvm.Cond.code ({ cls := "NotchSticksModel", name := "mostOf", desc := "(I)I" } : Jvm.MethodName) prog_17_method_14_code (2 : Nat) (Option.some Jvm.ClassFile.FieldType.int)) ∈ lw_all := lw_g (lw_at lw_m6 40 rfl) rfl
theorem q1352 : (Jvm.Cond.instanceMethod ({ cls := "NotchSticksModel", name := "feed", desc := "(IIIII)I" } : Jvm.MethodName)) ∈ lw_all := lw_g (lw_at lw_m6 42 rfl) rfl
theorem q1353 : (Jvm.Cond.selects "NotchSticksModel" ({ cls := "NotchSticksModel", name := "feed", desc := "(IIIII)I" } : Jvm.MethodName) ({ cls := "NotchSticksModel", name := "feed", desc := "(IIIII)I" } : Jvm.MethodName)) ∈ lw_all := lw_g (lw_at lw_m6 43 rfl) rfl
theorem q1354 : (Jvm.Cond.code ({ cls := "NotchSticksModel", name := "feed", desc := "(IIIII)I" } : Jvm.MethodName) prog_17_method_18_code (6 : Nat) (Option.some Jvm.ClassFile.FieldType.int)) ∈ lw_all := lw_g (lw_at lw_m6 44 rfl) rfl
theorem q1355 : (Jvm.Cond.methodLink "NotchSticksModel" (124 : Nat) ({ cls := "NotchSticksModel", name := "types", desc := "(I)V" } : Jvm.MethodName)) ∈ lw_all := lw_g (lw_at lw_m6 45 rfl) rfl
theorem q1356 : (Jvm.Cond.privateMethod ({ cls := "NotchSticksModel", name := "types", desc := "(I)V" } : Jvm.MethodName)) ∈ lw_tbl := lw_at lw_m6 46 rfl
theorem q1357 : (Jvm.Cond.instanceMethod ({ cls := "NotchSticksModel", name := "types", desc := "(I)V" } : Jvm.MethodName)) ∈ lw_all := lw_g (lw_at lw_m6 47 rfl) rfl
theorem q1358 : (Jvm.Cond.code ({ cls := "NotchSticksModel", name := "types", desc := "(I)V" } : Jvm.MethodName) prog_17_method_17_code (3 : Nat) (Option.none : Option Jvm.ClassFile.FieldType)) ∈ lw_all := lw_g (lw_at lw_m6 48 rfl) rfl
theorem q1360 : (Jvm.Cond.instanceMethod ({ cls := "NotchSticksModel", name := "end", desc := "(I)Z" } : Jvm.MethodName)) ∈ lw_all := lw_g (lw_at lw_m6 50 rfl) rfl
theorem q1361 : (Jvm.Cond.selects "NotchSticksModel" ({ cls := "NotchSticksModel", name := "end", desc := "(I)Z" } : Jvm.MethodName) ({ cls := "NotchSticksModel", name := "end", desc := "(I)Z" } : Jvm.MethodName)) ∈ lw_all := lw_g (lw_at lw_m6 51 rfl) rfl
theorem q1362 : (Jvm.Cond.code ({ cls := "NotchSticksModel", name := "end", desc := "(I)Z" } : Jvm.MethodName) prog_17_method_19_code (2 : Nat) (Option.some Jvm.ClassFile.FieldType.boolean)) ∈ lw_all := lw_g (lw_at lw_m6 52 rfl) rfl
theorem q1364 : (Jvm.Cond.instanceMethod ({ cls := "NotchSticksModel", name := "text", desc := "(I)I" } : Jvm.MethodName)) ∈ lw_all := lw_g (lw_at lw_m6 54 rfl) rfl
theorem q1365 : (Jvm.Cond.selects "NotchSticksModel" ({ cls := "NotchSticksModel", name := "text", desc := "(I)I" } : Jvm.MethodName) ({ cls := "NotchSticksModel", name := "text", desc := "(I)I" } : Jvm.MethodName)) ∈ lw_all := lw_g (lw_at lw_m6 55 rfl) rfl
theorem q1366 : (Jvm.Cond.code ({ cls := "NotchSticksModel", name := "text", desc := "(I)I" } : Jvm.MethodName) prog_17_method_38_code (5 : Nat) (Option.some Jvm.ClassFile.FieldType.int)) ∈ lw_all := lw_g (lw_at lw_m6 56 rfl) rfl
theorem q1367 : (Jvm.Cond.methodLink "NotchSticksModel" (175 : Nat) ({ cls := "NotchSticksModel", name := "reads", desc := "()V" } : Jvm.MethodName)) ∈ lw_all := lw_g (lw_at lw_m6 57 rfl) rfl
theorem q1368 : (Jvm.Cond.privateMethod ({ cls := "NotchSticksModel", name := "reads", desc := "()V" } : Jvm.MethodName)) ∈ lw_tbl := lw_at lw_m6 58 rfl
theorem q1369 : (Jvm.Cond.instanceMethod ({ cls := "NotchSticksModel", name := "reads", desc := "()V" } : Jvm.MethodName)) ∈ lw_all := lw_g (lw_at lw_m6 59 rfl) rfl
theorem q1370 : (Jvm.Cond.code ({ cls := "NotchSticksModel", name := "reads", desc := "()V" } : Jvm.MethodName) prog_17_method_25_code (2 : Nat) (Option.none : Option Jvm.ClassFile.FieldType)) ∈ lw_all := lw_g (lw_at lw_m6 60 rfl) rfl
theorem q1371 : (Jvm.Cond.methodLink "NotchSticksModel" (131 : Nat) ({ cls := "NotchSticksModel", name := "raw", desc := "(I)I" } : Jvm.MethodName)) ∈ lw_all := lw_g (lw_at lw_m6 61 rfl) rfl
theorem q1372 : (Jvm.Cond.privateMethod ({ cls := "NotchSticksModel", name := "raw", desc := "(I)I" } : Jvm.MethodName)) ∈ lw_tbl := lw_at lw_m6 62 rfl
theorem q1373 : (Jvm.Cond.instanceMethod ({ cls := "NotchSticksModel", name := "raw", desc := "(I)I" } : Jvm.MethodName)) ∈ lw_all := lw_g (lw_at lw_m6 63 rfl) rfl
theorem q1374 : (Jvm.Cond.code ({ cls := "NotchSticksModel", name := "raw", desc := "(I)I" } : Jvm.MethodName) prog_17_method_20_code (2 : Nat) (Option.some Jvm.ClassFile.FieldType.int)) ∈ lw_all := lw_g (lw_at lw_m6 64 rfl) rfl
theorem q1375 : (Jvm.Cond.methodLink "NotchSticksModel" (143 : Nat) ({ cls := "NotchSticksModel", name := "isLetter", desc := "(I)Z" } : Jvm.MethodName)) ∈ lw_all := lw_g (lw_at lw_m6 65 rfl) rfl
theorem q1376 : (Jvm.Cond.privateMethod ({ cls := "NotchSticksModel", name := "isLetter", desc := "(I)Z" } : Jvm.MethodName)) ∈ lw_tbl := lw_at lw_m6 66 rfl
theorem q1377 : (Jvm.Cond.instanceMethod ({ cls := "NotchSticksModel", name := "isLetter", desc := "(I)Z" } : Jvm.MethodName)) ∈ lw_all := lw_g (lw_at lw_m6 67 rfl) rfl
theorem q1378 : (Jvm.Cond.code ({ cls := "NotchSticksModel", name := "isLetter", desc := "(I)Z" } : Jvm.MethodName) prog_17_method_21_code (2 : Nat) (Option.some Jvm.ClassFile.FieldType.boolean)) ∈ lw_all := lw_g (lw_at lw_m6 68 rfl) rfl
theorem q1379 : (Jvm.Cond.methodLink "NotchSticksModel" (146 : Nat) ({ cls := "NotchSticksModel", name := "wordAt", desc := "(II)I" } : Jvm.MethodName)) ∈ lw_all := lw_g (lw_at lw_m6 69 rfl) rfl
theorem q1380 : (Jvm.Cond.privateMethod ({ cls := "NotchSticksModel", name := "wordAt", desc := "(II)I" } : Jvm.MethodName)) ∈ lw_tbl := lw_at lw_m6 70 rfl
theorem q1381 : (Jvm.Cond.instanceMethod ({ cls := "NotchSticksModel", name := "wordAt", desc := "(II)I" } : Jvm.MethodName)) ∈ lw_all := lw_g (lw_at lw_m6 71 rfl) rfl
theorem q1382 : (Jvm.Cond.code ({ cls := "NotchSticksModel", name := "wordAt", desc := "(II)I" } : Jvm.MethodName) prog_17_method_24_code (6 : Nat) (Option.some Jvm.ClassFile.FieldType.int)) ∈ lw_all := lw_g (lw_at lw_m6 72 rfl) rfl
theorem q1383 : (Jvm.Cond.methodLink "NotchSticksModel" (153 : Nat) ({ cls := "NotchSticksModel", name := "isDigit", desc := "(I)Z" } : Jvm.MethodName)) ∈ lw_all := lw_g (lw_at lw_m6 73 rfl) rfl
theorem q1384 : (Jvm.Cond.privateMethod ({ cls := "NotchSticksModel", name := "isDigit", desc := "(I)Z" } : Jvm.MethodName)) ∈ lw_tbl := lw_at lw_m6 74 rfl
theorem q1385 : (Jvm.Cond.instanceMethod ({ cls := "NotchSticksModel", name := "isDigit", desc := "(I)Z" } : Jvm.MethodName)) ∈ lw_all := lw_g (lw_at lw_m6 75 rfl) rfl
theorem q1386 : (Jvm.Cond.code ({ cls := "NotchSticksModel", name := "isDigit", desc := "(I)Z" } : Jvm.MethodName) prog_17_method_22_code (2 : Nat) (Option.some Jvm.ClassFile.FieldType.boolean)) ∈ lw_all := lw_g (lw_at lw_m6 76 rfl) rfl
theorem q1387 : (Jvm.Cond.methodLink "NotchSticksModel" (156 : Nat) ({ cls := "NotchSticksModel", name := "isMarkSign", desc := "(I)Z" } : Jvm.MethodName)) ∈ lw_all := lw_g (lw_at lw_m6 77 rfl) rfl
theorem q1388 : (Jvm.Cond.privateMethod ({ cls := "NotchSticksModel", name := "isMarkSign", desc := "(I)Z" } : Jvm.MethodName)) ∈ lw_tbl := lw_at lw_m6 78 rfl
theorem q1389 : (Jvm.Cond.instanceMethod ({ cls := "NotchSticksModel", name := "isMarkSign", desc := "(I)Z" } : Jvm.MethodName)) ∈ lw_all := lw_g (lw_at lw_m6 79 rfl) rfl
theorem q1390 : (Jvm.Cond.code ({ cls := "NotchSticksModel", name := "isMarkSign", desc := "(I)Z" } : Jvm.MethodName) prog_17_method_23_code (2 : Nat) (Option.some Jvm.ClassFile.FieldType.boolean)) ∈ lw_all := lw_g (lw_at lw_m6 80 rfl) rfl
theorem q1391 : (Jvm.Cond.methodLink "NotchSticksModel" (215 : Nat) ({ cls := "NotchSticksModel", name := "readText", desc := "()I" } : Jvm.MethodName)) ∈ lw_all := lw_g (lw_at lw_m6 81 rfl) rfl
theorem q1392 : (Jvm.Cond.privateMethod ({ cls := "NotchSticksModel", name := "readText", desc := "()I" } : Jvm.MethodName)) ∈ lw_tbl := lw_at lw_m6 82 rfl
theorem q1393 : (Jvm.Cond.instanceMethod ({ cls := "NotchSticksModel", name := "readText", desc := "()I" } : Jvm.MethodName)) ∈ lw_all := lw_g (lw_at lw_m6 83 rfl) rfl
theorem q1394 : (Jvm.Cond.code ({ cls := "NotchSticksModel", name := "readText", desc := "()I" } : Jvm.MethodName) prog_17_method_37_code (3 : Nat) (Option.some Jvm.ClassFile.FieldType.int)) ∈ lw_all := lw_g (lw_at lw_m6 84 rfl) rfl
theorem q1395 : (Jvm.Cond.methodLink "NotchSticksModel" (197 : Nat) ({ cls := "NotchSticksModel", name := "isWord", desc := "(I)Z" } : Jvm.MethodName)) ∈ lw_all := lw_g (lw_at lw_m6 85 rfl) rfl
theorem q1396 : (Jvm.Cond.privateMethod ({ cls := "NotchSticksModel", name := "isWord", desc := "(I)Z" } : Jvm.MethodName)) ∈ lw_tbl := lw_at lw_m6 86 rfl
theorem q1397 : (Jvm.Cond.instanceMethod ({ cls := "NotchSticksModel", name := "isWord", desc := "(I)Z" } : Jvm.MethodName)) ∈ lw_all := lw_g (lw_at lw_m6 87 rfl) rfl
theorem q1398 : (Jvm.Cond.code ({ cls := "NotchSticksModel", name := "isWord", desc := "(I)Z" } : Jvm.MethodName) prog_17_method_27_code (2 : Nat) (Option.some Jvm.ClassFile.FieldType.boolean)) ∈ lw_all := lw_g (lw_at lw_m6 88 rfl) rfl
theorem q1399 : (Jvm.Cond.methodLink "NotchSticksModel" (168 : Nat) ({ cls := "NotchSticksModel", name := "errs", desc := "(I)I" } : Jvm.MethodName)) ∈ lw_all := lw_g (lw_at lw_m6 89 rfl) rfl
theorem q1400 : (Jvm.Cond.privateMethod ({ cls := "NotchSticksModel", name := "errs", desc := "(I)I" } : Jvm.MethodName)) ∈ lw_tbl := lw_at lw_m6 90 rfl
theorem q1401 : (Jvm.Cond.instanceMethod ({ cls := "NotchSticksModel", name := "errs", desc := "(I)I" } : Jvm.MethodName)) ∈ lw_all := lw_g (lw_at lw_m6 91 rfl) rfl
theorem q1402 : (Jvm.Cond.code ({ cls := "NotchSticksModel", name := "errs", desc := "(I)I" } : Jvm.MethodName) prog_17_method_26_code (2 : Nat) (Option.some Jvm.ClassFile.FieldType.int)) ∈ lw_all := lw_g (lw_at lw_m6 92 rfl) rfl
theorem q1403 : (Jvm.Cond.methodLink "NotchSticksModel" (209 : Nat) ({ cls := "NotchSticksModel", name := "readAny", desc := "()I" } : Jvm.MethodName)) ∈ lw_all := lw_g (lw_at lw_m6 93 rfl) rfl
theorem q1404 : (Jvm.Cond.privateMethod ({ cls := "NotchSticksModel", name := "readAny", desc := "()I" } : Jvm.MethodName)) ∈ lw_tbl := lw_at lw_m6 94 rfl
theorem q1405 : (Jvm.Cond.instanceMethod ({ cls := "NotchSticksModel", name := "readAny", desc := "()I" } : Jvm.MethodName)) ∈ lw_all := lw_g (lw_at lw_m6 95 rfl) rfl
theorem q1406 : (Jvm.Cond.code ({ cls := "NotchSticksModel", name := "readAny", desc := "()I" } : Jvm.MethodName) prog_17_method_36_code (4 : Nat) (Option.some Jvm.ClassFile.FieldType.int)) ∈ lw_all := lw_g (lw_at lw_m6 96 rfl) rfl
theorem q1407 : (Jvm.Cond.methodLink "NotchSticksModel" (182 : Nat) ({ cls := "NotchSticksModel", name := "isSign", desc := "(I)Z" } : Jvm.MethodName)) ∈ lw_all := lw_g (lw_at lw_m6 97 rfl) rfl
theorem q1408 : (Jvm.Cond.privateMethod ({ cls := "NotchSticksModel", name := "isSign", desc := "(I)Z" } : Jvm.MethodName)) ∈ lw_tbl := lw_at lw_m6 98 rfl
theorem q1409 : (Jvm.Cond.instanceMethod ({ cls := "NotchSticksModel", name := "isSign", desc := "(I)Z" } : Jvm.MethodName)) ∈ lw_all := lw_g (lw_at lw_m6 99 rfl) rfl
theorem q1410 : (Jvm.Cond.code ({ cls := "NotchSticksModel", name := "isSign", desc := "(I)Z" } : Jvm.MethodName) prog_17_method_28_code (2 : Nat) (Option.some Jvm.ClassFile.FieldType.boolean)) ∈ lw_all := lw_g (lw_at lw_m6 100 rfl) rfl
theorem q1411 : (Jvm.Cond.methodLink "NotchSticksModel" (200 : Nat) ({ cls := "NotchSticksModel", name := "waits", desc := "(I)V" } : Jvm.MethodName)) ∈ lw_all := lw_g (lw_at lw_m6 101 rfl) rfl
theorem q1412 : (Jvm.Cond.privateMethod ({ cls := "NotchSticksModel", name := "waits", desc := "(I)V" } : Jvm.MethodName)) ∈ lw_tbl := lw_at lw_m6 102 rfl
theorem q1413 : (Jvm.Cond.instanceMethod ({ cls := "NotchSticksModel", name := "waits", desc := "(I)V" } : Jvm.MethodName)) ∈ lw_all := lw_g (lw_at lw_m6 103 rfl) rfl
theorem q1414 : (Jvm.Cond.code ({ cls := "NotchSticksModel", name := "waits", desc := "(I)V" } : Jvm.MethodName) prog_17_method_34_code (2 : Nat) (Option.none : Option Jvm.ClassFile.FieldType)) ∈ lw_all := lw_g (lw_at lw_m6 104 rfl) rfl
theorem q1415 : (Jvm.Cond.methodLink "NotchSticksModel" (203 : Nat) ({ cls := "NotchSticksModel", name := "readCompared", desc := "()I" } : Jvm.MethodName)) ∈ lw_all := lw_g (lw_at lw_m6 105 rfl) rfl
theorem q1416 : (Jvm.Cond.privateMethod ({ cls := "NotchSticksModel", name := "readCompared", desc := "()I" } : Jvm.MethodName)) ∈ lw_tbl := lw_at lw_m6 106 rfl
theorem q1417 : (Jvm.Cond.instanceMethod ({ cls := "NotchSticksModel", name := "readCompared", desc := "()I" } : Jvm.MethodName)) ∈ lw_all := lw_g (lw_at lw_m6 107 rfl) rfl
theorem q1418 : (Jvm.Cond.code ({ cls := "NotchSticksModel", name := "readCompared", desc := "()I" } : Jvm.MethodName) prog_17_method_33_code (2 : Nat) (Option.some Jvm.ClassFile.FieldType.int)) ∈ lw_all := lw_g (lw_at lw_m6 108 rfl) rfl
theorem q1419 : (Jvm.Cond.methodLink "NotchSticksModel" (188 : Nat) ({ cls := "NotchSticksModel", name := "readSum", desc := "()I" } : Jvm.MethodName)) ∈ lw_all := lw_g (lw_at lw_m6 109 rfl) rfl
theorem q1420 : (Jvm.Cond.privateMethod ({ cls := "NotchSticksModel", name := "readSum", desc := "()I" } : Jvm.MethodName)) ∈ lw_tbl := lw_at lw_m6 110 rfl
theorem q1421 : (Jvm.Cond.instanceMethod ({ cls := "NotchSticksModel", name := "readSum", desc := "()I" } : Jvm.MethodName)) ∈ lw_all := lw_g (lw_at lw_m6 111 rfl) rfl
theorem q1422 : (Jvm.Cond.code ({ cls := "NotchSticksModel", name := "readSum", desc := "()I" } : Jvm.MethodName) prog_17_method_32_code (2 : Nat) (Option.some Jvm.ClassFile.FieldType.int)) ∈ lw_all := lw_g (lw_at lw_m6 112 rfl) rfl
theorem q1423 : (Jvm.Cond.methodLink "NotchSticksModel" (185 : Nat) ({ cls := "NotchSticksModel", name := "readProduct", desc := "()I" } : Jvm.MethodName)) ∈ lw_all := lw_g (lw_at lw_m6 113 rfl) rfl
theorem q1424 : (Jvm.Cond.privateMethod ({ cls := "NotchSticksModel", name := "readProduct", desc := "()I" } : Jvm.MethodName)) ∈ lw_tbl := lw_at lw_m6 114 rfl
theorem q1425 : (Jvm.Cond.instanceMethod ({ cls := "NotchSticksModel", name := "readProduct", desc := "()I" } : Jvm.MethodName)) ∈ lw_all := lw_g (lw_at lw_m6 115 rfl) rfl
theorem q1426 : (Jvm.Cond.code ({ cls := "NotchSticksModel", name := "readProduct", desc := "()I" } : Jvm.MethodName) prog_17_method_31_code (2 : Nat) (Option.some Jvm.ClassFile.FieldType.int)) ∈ lw_all := lw_g (lw_at lw_m6 116 rfl) rfl
theorem q1427 : (Jvm.Cond.methodLink "NotchSticksModel" (178 : Nat) ({ cls := "NotchSticksModel", name := "readUnit", desc := "()I" } : Jvm.MethodName)) ∈ lw_all := lw_g (lw_at lw_m6 117 rfl) rfl
theorem q1428 : (Jvm.Cond.privateMethod ({ cls := "NotchSticksModel", name := "readUnit", desc := "()I" } : Jvm.MethodName)) ∈ lw_tbl := lw_at lw_m6 118 rfl
theorem q1429 : (Jvm.Cond.instanceMethod ({ cls := "NotchSticksModel", name := "readUnit", desc := "()I" } : Jvm.MethodName)) ∈ lw_all := lw_g (lw_at lw_m6 119 rfl) rfl
theorem q1430 : (Jvm.Cond.code ({ cls := "NotchSticksModel", name := "readUnit", desc := "()I" } : Jvm.MethodName) prog_17_method_30_code (2 : Nat) (Option.some Jvm.ClassFile.FieldType.int)) ∈ lw_all := lw_g (lw_at lw_m6 120 rfl) rfl
theorem q1431 : (Jvm.Cond.methodLink "NotchSticksModel" (171 : Nat) ({ cls := "NotchSticksModel", name := "emits", desc := "(II)V" } : Jvm.MethodName)) ∈ lw_all := lw_g (lw_at lw_m6 121 rfl) rfl
theorem q1432 : (Jvm.Cond.privateMethod ({ cls := "NotchSticksModel", name := "emits", desc := "(II)V" } : Jvm.MethodName)) ∈ lw_tbl := lw_at lw_m6 122 rfl
theorem q1433 : (Jvm.Cond.instanceMethod ({ cls := "NotchSticksModel", name := "emits", desc := "(II)V" } : Jvm.MethodName)) ∈ lw_all := lw_g (lw_at lw_m6 123 rfl) rfl
theorem q1434 : (Jvm.Cond.code ({ cls := "NotchSticksModel", name := "emits", desc := "(II)V" } : Jvm.MethodName) prog_17_method_29_code (3 : Nat) (Option.none : Option Jvm.ClassFile.FieldType)) ∈ lw_all := lw_g (lw_at lw_m6 124 rfl) rfl
theorem q1435 : (Jvm.Cond.methodLink "NotchSticksModel" (206 : Nat) ({ cls := "NotchSticksModel", name := "settles", desc := "(I)V" } : Jvm.MethodName)) ∈ lw_all := lw_g (lw_at lw_m6 125 rfl) rfl
theorem q1436 : (Jvm.Cond.privateMethod ({ cls := "NotchSticksModel", name := "settles", desc := "(I)V" } : Jvm.MethodName)) ∈ lw_tbl := lw_at lw_m6 126 rfl
theorem q1437 : (Jvm.Cond.instanceMethod ({ cls := "NotchSticksModel", name := "settles", desc := "(I)V" } : Jvm.MethodName)) ∈ lw_all := lw_g (lw_at lw_m6 127 rfl) rfl
theorem q1438 : (Jvm.Cond.code ({ cls := "NotchSticksModel", name := "settles", desc := "(I)V" } : Jvm.MethodName) prog_17_method_35_code (2 : Nat) (Option.none : Option Jvm.ClassFile.FieldType)) ∈ lw_all := lw_g (lw_at lw_m6 128 rfl) rfl
theorem q1440 : (Jvm.Cond.instanceMethod ({ cls := "NotchSticksModel", name := "fault", desc := "(I)I" } : Jvm.MethodName)) ∈ lw_all := lw_g (lw_at lw_m6 130 rfl) rfl
theorem q1441 : (Jvm.Cond.selects "NotchSticksModel" ({ cls := "NotchSticksModel", name := "fault", desc := "(I)I" } : Jvm.MethodName) ({ cls := "NotchSticksModel", name := "fault", desc := "(I)I" } : Jvm.MethodName)) ∈ lw_all := lw_g (lw_at lw_m6 131 rfl) rfl
theorem q1442 : (Jvm.Cond.code ({ cls := "NotchSticksModel", name := "fault", desc := "(I)I" } : Jvm.MethodName) prog_17_method_39_code (2 : Nat) (Option.some Jvm.ClassFile.FieldType.int)) ∈ lw_all := lw_g (lw_at lw_m6 132 rfl) rfl
theorem q1444 : (Jvm.Cond.instanceMethod ({ cls := "NotchSticksModel", name := "of", desc := "(II)I" } : Jvm.MethodName)) ∈ lw_all := lw_g (lw_at lw_m6 134 rfl) rfl
theorem q1445 : (Jvm.Cond.selects "NotchSticksModel" ({ cls := "NotchSticksModel", name := "of", desc := "(II)I" } : Jvm.MethodName) ({ cls := "NotchSticksModel", name := "of", desc := "(II)I" } : Jvm.MethodName)) ∈ lw_all := lw_g (lw_at lw_m6 135 rfl) rfl
theorem q1446 : (Jvm.Cond.code ({ cls := "NotchSticksModel", name := "of", desc := "(II)I" } : Jvm.MethodName) prog_17_method_47_code (3 : Nat) (Option.some Jvm.ClassFile.FieldType.int)) ∈ lw_all := lw_g (lw_at lw_m6 136 rfl) rfl
theorem q1447 : (Jvm.Cond.methodLink "NotchSticksModel" (101 : Nat) ({ cls := "NotchSticksModel", name := "fact", desc := "(II)I" } : Jvm.MethodName)) ∈ lw_all := lw_g (lw_at lw_m6 137 rfl) rfl
theorem q1448 : (Jvm.Cond.privateMethod ({ cls := "NotchSticksModel", name := "fact", desc := "(II)I" } : Jvm.MethodName)) ∈ lw_tbl := lw_at lw_m6 138 rfl
theorem q1449 : (Jvm.Cond.instanceMethod ({ cls := "NotchSticksModel", name := "fact", desc := "(II)I" } : Jvm.MethodName)) ∈ lw_all := lw_g (lw_at lw_m6 139 rfl) rfl
theorem q1450 : (Jvm.Cond.code ({ cls := "NotchSticksModel", name := "fact", desc := "(II)I" } : Jvm.MethodName) prog_17_method_8_code (3 : Nat) (Option.some Jvm.ClassFile.FieldType.int)) ∈ lw_all := lw_g (lw_at lw_m6 140 rfl) rfl
theorem q1451 : (Jvm.Cond.constant "NotchSticksModel" (239 : Nat) (-10000000 : Int32)) ∈ lw_all := lw_g (lw_at lw_m6 141 rfl) rfl
theorem q1453 : (Jvm.Cond.instanceMethod ({ cls := "NotchSticksModel", name := "would", desc := "(IIII)I" } : Jvm.MethodName)) ∈ lw_all := lw_g (lw_at lw_m6 143 rfl) rfl
theorem q1454 : (Jvm.Cond.selects "NotchSticksModel" ({ cls := "NotchSticksModel", name := "would", desc := "(IIII)I" } : Jvm.MethodName) ({ cls := "NotchSticksModel", name := "would", desc := "(IIII)I" } : Jvm.MethodName)) ∈ lw_all := lw_g (lw_at lw_m6 144 rfl) rfl
theorem q1455 : (Jvm.Cond.code ({ cls := "NotchSticksModel", name := "would", desc := "(IIII)I" } : Jvm.MethodName) prog_17_method_48_code (6 : Nat) (Option.some Jvm.ClassFile.FieldType.int)) ∈ lw_all := lw_g (lw_at lw_m6 145 rfl) rfl
theorem q1456 : (Jvm.Cond.methodLink "NotchSticksModel" (240 : Nat) ({ cls := "NotchSticksModel", name := "isSize", desc := "(I)Z" } : Jvm.MethodName)) ∈ lw_all := lw_g (lw_at lw_m6 146 rfl) rfl
theorem q1457 : (Jvm.Cond.privateMethod ({ cls := "NotchSticksModel", name := "isSize", desc := "(I)Z" } : Jvm.MethodName)) ∈ lw_tbl := lw_at lw_m6 147 rfl
theorem q1458 : (Jvm.Cond.instanceMethod ({ cls := "NotchSticksModel", name := "isSize", desc := "(I)Z" } : Jvm.MethodName)) ∈ lw_all := lw_g (lw_at lw_m6 148 rfl) rfl
theorem q1459 : (Jvm.Cond.code ({ cls := "NotchSticksModel", name := "isSize", desc := "(I)Z" } : Jvm.MethodName) prog_17_method_7_code (2 : Nat) (Option.some Jvm.ClassFile.FieldType.boolean)) ∈ lw_all := lw_g (lw_at lw_m6 149 rfl) rfl
theorem q1460 : (Jvm.Cond.methodLink "NotchSticksModel" (243 : Nat) ({ cls := "NotchSticksModel", name := "isDealing", desc := "(III)Z" } : Jvm.MethodName)) ∈ lw_all := lw_g (lw_at lw_m6 150 rfl) rfl
theorem q1461 : (Jvm.Cond.privateMethod ({ cls := "NotchSticksModel", name := "isDealing", desc := "(III)Z" } : Jvm.MethodName)) ∈ lw_tbl := lw_at lw_m6 151 rfl
theorem q1462 : (Jvm.Cond.instanceMethod ({ cls := "NotchSticksModel", name := "isDealing", desc := "(III)Z" } : Jvm.MethodName)) ∈ lw_all := lw_g (lw_at lw_m6 152 rfl) rfl
theorem q1463 : (Jvm.Cond.code ({ cls := "NotchSticksModel", name := "isDealing", desc := "(III)Z" } : Jvm.MethodName) prog_17_method_45_code (4 : Nat) (Option.some Jvm.ClassFile.FieldType.boolean)) ∈ lw_all := lw_g (lw_at lw_m6 153 rfl) rfl
theorem q1464 : (Jvm.Cond.methodLink "NotchSticksModel" (235 : Nat) ({ cls := "NotchSticksModel", name := "tells", desc := "(IIIIZ)Z" } : Jvm.MethodName)) ∈ lw_all := lw_g (lw_at lw_m6 154 rfl) rfl
theorem q1465 : (Jvm.Cond.privateMethod ({ cls := "NotchSticksModel", name := "tells", desc := "(IIIIZ)Z" } : Jvm.MethodName)) ∈ lw_tbl := lw_at lw_m6 155 rfl
theorem q1466 : (Jvm.Cond.instanceMethod ({ cls := "NotchSticksModel", name := "tells", desc := "(IIIIZ)Z" } : Jvm.MethodName)) ∈ lw_all := lw_g (lw_at lw_m6 156 rfl) rfl
theorem q1467 : (Jvm.Cond.code ({ cls := "NotchSticksModel", name := "tells", desc := "(IIIIZ)Z" } : Jvm.MethodName) prog_17_method_44_code (11 : Nat) (Option.some Jvm.ClassFile.FieldType.boolean)) ∈ lw_all := lw_g (lw_at lw_m6 157 rfl) rfl
theorem q1468 : (Jvm.Cond.methodLink "NotchSticksModel" (232 : Nat) ({ cls := "NotchSticksModel", name := "isLawful", desc := "(II)Z" } : Jvm.MethodName)) ∈ lw_all := lw_g (lw_at lw_m6 158 rfl) rfl
theorem q1469 : (Jvm.Cond.privateMethod ({ cls := "NotchSticksModel", name := "isLawful", desc := "(II)Z" } : Jvm.MethodName)) ∈ lw_tbl := lw_at lw_m6 159 rfl
theorem q1470 : (Jvm.Cond.instanceMethod ({ cls := "NotchSticksModel", name := "isLawful", desc := "(II)Z" } : Jvm.MethodName)) ∈ lw_all := lw_g (lw_at lw_m6 160 rfl) rfl
theorem q1471 : (Jvm.Cond.code ({ cls := "NotchSticksModel", name := "isLawful", desc := "(II)Z" } : Jvm.MethodName) prog_17_method_43_code (5 : Nat) (Option.some Jvm.ClassFile.FieldType.boolean)) ∈ lw_all := lw_g (lw_at lw_m6 161 rfl) rfl
theorem q1472 : (Jvm.Cond.methodLink "NotchSticksModel" (225 : Nat) ({ cls := "NotchSticksModel", name := "asksOwn", desc := "(II)V" } : Jvm.MethodName)) ∈ lw_all := lw_g (lw_at lw_m6 162 rfl) rfl
theorem q1473 : (Jvm.Cond.privateMethod ({ cls := "NotchSticksModel", name := "asksOwn", desc := "(II)V" } : Jvm.MethodName)) ∈ lw_tbl := lw_at lw_m6 163 rfl
theorem q1474 : (Jvm.Cond.instanceMethod ({ cls := "NotchSticksModel", name := "asksOwn", desc := "(II)V" } : Jvm.MethodName)) ∈ lw_all := lw_g (lw_at lw_m6 164 rfl) rfl
theorem q1475 : (Jvm.Cond.code ({ cls := "NotchSticksModel", name := "asksOwn", desc := "(II)V" } : Jvm.MethodName) prog_17_method_42_code (3 : Nat) (Option.none : Option Jvm.ClassFile.FieldType)) ∈ lw_all := lw_g (lw_at lw_m6 165 rfl) rfl
theorem q1476 : (Jvm.Cond.methodLink "NotchSticksModel" (228 : Nat) ({ cls := "NotchSticksModel", name := "isSo", desc := "(II)Z" } : Jvm.MethodName)) ∈ lw_all := lw_g (lw_at lw_m6 166 rfl) rfl
theorem q1477 : (Jvm.Cond.privateMethod ({ cls := "NotchSticksModel", name := "isSo", desc := "(II)Z" } : Jvm.MethodName)) ∈ lw_tbl := lw_at lw_m6 167 rfl
theorem q1478 : (Jvm.Cond.instanceMethod ({ cls := "NotchSticksModel", name := "isSo", desc := "(II)Z" } : Jvm.MethodName)) ∈ lw_all := lw_g (lw_at lw_m6 168 rfl) rfl
theorem q1479 : (Jvm.Cond.code ({ cls := "NotchSticksModel", name := "isSo", desc := "(II)Z" } : Jvm.MethodName) prog_17_method_41_code (5 : Nat) (Option.some Jvm.ClassFile.FieldType.boolean)) ∈ lw_all := lw_g (lw_at lw_m6 169 rfl) rfl
theorem q1480 : (Jvm.Cond.methodLink "NotchSticksModel" (218 : Nat) ({ cls := "NotchSticksModel", name := "twoOf", desc := "(III)I" } : Jvm.MethodName)) ∈ lw_all := lw_g (lw_at lw_m6 170 rfl) rfl
theorem q1481 : (Jvm.Cond.privateMethod ({ cls := "NotchSticksModel", name := "twoOf", desc := "(III)I" } : Jvm.MethodName)) ∈ lw_tbl := lw_at lw_m6 171 rfl
theorem q1482 : (Jvm.Cond.instanceMethod ({ cls := "NotchSticksModel", name := "twoOf", desc := "(III)I" } : Jvm.MethodName)) ∈ lw_all := lw_g (lw_at lw_m6 172 rfl) rfl
theorem q1483 : (Jvm.Cond.code ({ cls := "NotchSticksModel", name := "twoOf", desc := "(III)I" } : Jvm.MethodName) prog_17_method_40_code (4 : Nat) (Option.some Jvm.ClassFile.FieldType.int)) ∈ lw_all := lw_g (lw_at lw_m6 173 rfl) rfl
theorem q1484 : (Jvm.Cond.methodLink "NotchSticksModel" (246 : Nat) ({ cls := "NotchSticksModel", name := "isBreaking", desc := "(III)Z" } : Jvm.MethodName)) ∈ lw_all := lw_g (lw_at lw_m6 174 rfl) rfl
theorem q1485 : (Jvm.Cond.privateMethod ({ cls := "NotchSticksModel", name := "isBreaking", desc := "(III)Z" } : Jvm.MethodName)) ∈ lw_tbl := lw_at lw_m6 175 rfl
theorem q1486 : (Jvm.Cond.instanceMethod ({ cls := "NotchSticksModel", name := "isBreaking", desc := "(III)Z" } : Jvm.MethodName)) ∈ lw_all := lw_g (lw_at lw_m6 176 rfl) rfl
theorem q1487 : (Jvm.Cond.code ({ cls := "NotchSticksModel", name := "isBreaking", desc := "(III)Z" } : Jvm.MethodName) prog_17_method_46_code (4 : Nat) (Option.some Jvm.ClassFile.FieldType.boolean)) ∈ lw_all := lw_g (lw_at lw_m6 177 rfl) rfl
theorem q1489 : (Jvm.Cond.instanceMethod ({ cls := "NotchSticksModel", name := "deal", desc := "(III)I" } : Jvm.MethodName)) ∈ lw_all := lw_g (lw_at lw_m6 179 rfl) rfl
theorem q1490 : (Jvm.Cond.selects "NotchSticksModel" ({ cls := "NotchSticksModel", name := "deal", desc := "(III)I" } : Jvm.MethodName) ({ cls := "NotchSticksModel", name := "deal", desc := "(III)I" } : Jvm.MethodName)) ∈ lw_all := lw_g (lw_at lw_m6 180 rfl) rfl
theorem q1491 : (Jvm.Cond.code ({ cls := "NotchSticksModel", name := "deal", desc := "(III)I" } : Jvm.MethodName) prog_17_method_52_code (4 : Nat) (Option.some Jvm.ClassFile.FieldType.int)) ∈ lw_all := lw_g (lw_at lw_m6 181 rfl) rfl
theorem q1492 : (Jvm.Cond.methodLink "NotchSticksModel" (275 : Nat) ({ cls := "NotchSticksModel", name := "settlesDeal", desc := "(III)I" } : Jvm.MethodName)) ∈ lw_all := lw_g (lw_at lw_m6 182 rfl) rfl
theorem q1493 : (Jvm.Cond.privateMethod ({ cls := "NotchSticksModel", name := "settlesDeal", desc := "(III)I" } : Jvm.MethodName)) ∈ lw_tbl := lw_at lw_m6 183 rfl
theorem q1494 : (Jvm.Cond.instanceMethod ({ cls := "NotchSticksModel", name := "settlesDeal", desc := "(III)I" } : Jvm.MethodName)) ∈ lw_all := lw_g (lw_at lw_m6 184 rfl) rfl
theorem q1495 : (Jvm.Cond.code ({ cls := "NotchSticksModel", name := "settlesDeal", desc := "(III)I" } : Jvm.MethodName) prog_17_method_51_code (10 : Nat) (Option.some Jvm.ClassFile.FieldType.int)) ∈ lw_all := lw_g (lw_at lw_m6 185 rfl) rfl
theorem q1496 : (Jvm.Cond.methodLink "NotchSticksModel" (267 : Nat) ({ cls := "NotchSticksModel", name := "worthOf", desc := "(ZZI)I" } : Jvm.MethodName)) ∈ lw_all := lw_g (lw_at lw_m6 186 rfl) rfl
theorem q1497 : (Jvm.Cond.privateMethod ({ cls := "NotchSticksModel", name := "worthOf", desc := "(ZZI)I" } : Jvm.MethodName)) ∈ lw_tbl := lw_at lw_m6 187 rfl
theorem q1498 : (Jvm.Cond.instanceMethod ({ cls := "NotchSticksModel", name := "worthOf", desc := "(ZZI)I" } : Jvm.MethodName)) ∈ lw_all := lw_g (lw_at lw_m6 188 rfl) rfl
theorem q1499 : (Jvm.Cond.code ({ cls := "NotchSticksModel", name := "worthOf", desc := "(ZZI)I" } : Jvm.MethodName) prog_17_method_49_code (4 : Nat) (Option.some Jvm.ClassFile.FieldType.int)) ∈ lw_all := lw_g (lw_at lw_m6 189 rfl) rfl
theorem q1500 : (Jvm.Cond.methodLink "NotchSticksModel" (258 : Nat) ({ cls := "NotchSticksModel", name := "adds", desc := "(III)V" } : Jvm.MethodName)) ∈ lw_all := lw_g (lw_at lw_m6 190 rfl) rfl
theorem q1501 : (Jvm.Cond.privateMethod ({ cls := "NotchSticksModel", name := "adds", desc := "(III)V" } : Jvm.MethodName)) ∈ lw_tbl := lw_at lw_m6 191 rfl
theorem q1502 : (Jvm.Cond.instanceMethod ({ cls := "NotchSticksModel", name := "adds", desc := "(III)V" } : Jvm.MethodName)) ∈ lw_all := lw_g (lw_at lw_m6 192 rfl) rfl
theorem q1503 : (Jvm.Cond.code ({ cls := "NotchSticksModel", name := "adds", desc := "(III)V" } : Jvm.MethodName) prog_17_method_10_code (4 : Nat) (Option.none : Option Jvm.ClassFile.FieldType)) ∈ lw_all := lw_g (lw_at lw_m6 193 rfl) rfl
theorem q1504 : (Jvm.Cond.methodLink "NotchSticksModel" (271 : Nat) ({ cls := "NotchSticksModel", name := "cuts", desc := "(IZZI)I" } : Jvm.MethodName)) ∈ lw_all := lw_g (lw_at lw_m6 194 rfl) rfl
theorem q1505 : (Jvm.Cond.privateMethod ({ cls := "NotchSticksModel", name := "cuts", desc := "(IZZI)I" } : Jvm.MethodName)) ∈ lw_tbl := lw_at lw_m6 195 rfl
theorem q1506 : (Jvm.Cond.instanceMethod ({ cls := "NotchSticksModel", name := "cuts", desc := "(IZZI)I" } : Jvm.MethodName)) ∈ lw_all := lw_g (lw_at lw_m6 196 rfl) rfl
theorem q1507 : (Jvm.Cond.code ({ cls := "NotchSticksModel", name := "cuts", desc := "(IZZI)I" } : Jvm.MethodName) prog_17_method_50_code (6 : Nat) (Option.some Jvm.ClassFile.FieldType.int)) ∈ lw_all := lw_g (lw_at lw_m6 197 rfl) rfl
theorem q1508 : (Jvm.Cond.methodLink "NotchSticksModel" (249 : Nat) ({ cls := "NotchSticksModel", name := "draw", desc := "(I)I" } : Jvm.MethodName)) ∈ lw_all := lw_g (lw_at lw_m6 198 rfl) rfl
theorem q1509 : (Jvm.Cond.privateMethod ({ cls := "NotchSticksModel", name := "draw", desc := "(I)I" } : Jvm.MethodName)) ∈ lw_tbl := lw_at lw_m6 199 rfl
theorem q1510 : (Jvm.Cond.instanceMethod ({ cls := "NotchSticksModel", name := "draw", desc := "(I)I" } : Jvm.MethodName)) ∈ lw_all := lw_g (lw_at lw_m6 200 rfl) rfl
theorem q1511 : (Jvm.Cond.code ({ cls := "NotchSticksModel", name := "draw", desc := "(I)I" } : Jvm.MethodName) prog_17_method_5_code (2 : Nat) (Option.some Jvm.ClassFile.FieldType.int)) ∈ lw_all := lw_g (lw_at lw_m6 201 rfl) rfl
theorem q1512 : (Jvm.Cond.constant "NotchSticksModel" (96 : Nat) (1664525 : Int32)) ∈ lw_all := lw_g (lw_at lw_m6 202 rfl) rfl
theorem q1513 : (Jvm.Cond.constant "NotchSticksModel" (97 : Nat) (1013904223 : Int32)) ∈ lw_all := lw_g (lw_at lw_m6 203 rfl) rfl
theorem q1514 : (Jvm.Cond.methodLink "NotchSticksModel" (255 : Nat) ({ cls := "NotchSticksModel", name := "grows", desc := "(III)V" } : Jvm.MethodName)) ∈ lw_all := lw_g (lw_at lw_m6 204 rfl) rfl
theorem q1515 : (Jvm.Cond.privateMethod ({ cls := "NotchSticksModel", name := "grows", desc := "(III)V" } : Jvm.MethodName)) ∈ lw_tbl := lw_at lw_m6 205 rfl
theorem q1516 : (Jvm.Cond.instanceMethod ({ cls := "NotchSticksModel", name := "grows", desc := "(III)V" } : Jvm.MethodName)) ∈ lw_all := lw_g (lw_at lw_m6 206 rfl) rfl
theorem q1517 : (Jvm.Cond.code ({ cls := "NotchSticksModel", name := "grows", desc := "(III)V" } : Jvm.MethodName) prog_17_method_11_code (5 : Nat) (Option.none : Option Jvm.ClassFile.FieldType)) ∈ lw_all := lw_g (lw_at lw_m6 207 rfl) rfl
theorem q1519 : (Jvm.Cond.instanceMethod ({ cls := "NotchSticksModel", name := "book", desc := "(II)I" } : Jvm.MethodName)) ∈ lw_all := lw_g (lw_at lw_m6 209 rfl) rfl
theorem q1520 : (Jvm.Cond.selects "NotchSticksModel" ({ cls := "NotchSticksModel", name := "book", desc := "(II)I" } : Jvm.MethodName) ({ cls := "NotchSticksModel", name := "book", desc := "(II)I" } : Jvm.MethodName)) ∈ lw_all := lw_g (lw_at lw_m6 210 rfl) rfl
theorem q1521 : (Jvm.Cond.code ({ cls := "NotchSticksModel", name := "book", desc := "(II)I" } : Jvm.MethodName) prog_17_method_53_code (3 : Nat) (Option.some Jvm.ClassFile.FieldType.int)) ∈ lw_all := lw_g (lw_at lw_m6 211 rfl) rfl
theorem q1523 : (Jvm.Cond.instanceMethod ({ cls := "NotchSticksModel", name := "years", desc := "(I)I" } : Jvm.MethodName)) ∈ lw_all := lw_g (lw_at lw_m6 213 rfl) rfl
theorem q1524 : (Jvm.Cond.selects "NotchSticksModel" ({ cls := "NotchSticksModel", name := "years", desc := "(I)I" } : Jvm.MethodName) ({ cls := "NotchSticksModel", name := "years", desc := "(I)I" } : Jvm.MethodName)) ∈ lw_all := lw_g (lw_at lw_m6 214 rfl) rfl
theorem q1525 : (Jvm.Cond.code ({ cls := "NotchSticksModel", name := "years", desc := "(I)I" } : Jvm.MethodName) prog_17_method_56_code (4 : Nat) (Option.some Jvm.ClassFile.FieldType.int)) ∈ lw_all := lw_g (lw_at lw_m6 215 rfl) rfl
theorem q1526 : (Jvm.Cond.methodLink "NotchSticksModel" (284 : Nat) ({ cls := "NotchSticksModel", name := "goesBy", desc := "()V" } : Jvm.MethodName)) ∈ lw_all := lw_g (lw_at lw_m6 216 rfl) rfl
theorem q1527 : (Jvm.Cond.privateMethod ({ cls := "NotchSticksModel", name := "goesBy", desc := "()V" } : Jvm.MethodName)) ∈ lw_tbl := lw_at lw_m6 217 rfl
theorem q1528 : (Jvm.Cond.instanceMethod ({ cls := "NotchSticksModel", name := "goesBy", desc := "()V" } : Jvm.MethodName)) ∈ lw_all := lw_g (lw_at lw_m6 218 rfl) rfl
theorem q1529 : (Jvm.Cond.code ({ cls := "NotchSticksModel", name := "goesBy", desc := "()V" } : Jvm.MethodName) prog_17_method_55_code (5 : Nat) (Option.none : Option Jvm.ClassFile.FieldType)) ∈ lw_all := lw_g (lw_at lw_m6 219 rfl) rfl
theorem q1530 : (Jvm.Cond.methodLink "NotchSticksModel" (278 : Nat) ({ cls := "NotchSticksModel", name := "weights", desc := "()I" } : Jvm.MethodName)) ∈ lw_all := lw_g (lw_at lw_m6 220 rfl) rfl
theorem q1531 : (Jvm.Cond.privateMethod ({ cls := "NotchSticksModel", name := "weights", desc := "()I" } : Jvm.MethodName)) ∈ lw_tbl := lw_at lw_m6 221 rfl
theorem q1532 : (Jvm.Cond.instanceMethod ({ cls := "NotchSticksModel", name := "weights", desc := "()I" } : Jvm.MethodName)) ∈ lw_all := lw_g (lw_at lw_m6 222 rfl) rfl
theorem q1533 : (Jvm.Cond.code ({ cls := "NotchSticksModel", name := "weights", desc := "()I" } : Jvm.MethodName) prog_17_method_16_code (3 : Nat) (Option.some Jvm.ClassFile.FieldType.int)) ∈ lw_all := lw_g (lw_at lw_m6 223 rfl) rfl
theorem q1534 : (Jvm.Cond.methodLink "NotchSticksModel" (281 : Nat) ({ cls := "NotchSticksModel", name := "drawnSize", desc := "(I)I" } : Jvm.MethodName)) ∈ lw_all := lw_g (lw_at lw_m6 224 rfl) rfl
theorem q1535 : (Jvm.Cond.privateMethod ({ cls := "NotchSticksModel", name := "drawnSize", desc := "(I)I" } : Jvm.MethodName)) ∈ lw_tbl := lw_at lw_m6 225 rfl
theorem q1536 : (Jvm.Cond.instanceMethod ({ cls := "NotchSticksModel", name := "drawnSize", desc := "(I)I" } : Jvm.MethodName)) ∈ lw_all := lw_g (lw_at lw_m6 226 rfl) rfl
theorem q1537 : (Jvm.Cond.code ({ cls := "NotchSticksModel", name := "drawnSize", desc := "(I)I" } : Jvm.MethodName) prog_17_method_54_code (5 : Nat) (Option.some Jvm.ClassFile.FieldType.int)) ∈ lw_all := lw_g (lw_at lw_m6 227 rfl) rfl
theorem q1539 : (Jvm.Cond.instanceMethod ({ cls := "NotchSticksModel", name := "plan", desc := "(IIIII)J" } : Jvm.MethodName)) ∈ lw_all := lw_g (lw_at lw_m6 229 rfl) rfl
theorem q1540 : (Jvm.Cond.selects "NotchSticksModel" ({ cls := "NotchSticksModel", name := "plan", desc := "(IIIII)J" } : Jvm.MethodName) ({ cls := "NotchSticksModel", name := "plan", desc := "(IIIII)J" } : Jvm.MethodName)) ∈ lw_all := lw_g (lw_at lw_m6 230 rfl) rfl
theorem q1541 : (Jvm.Cond.code ({ cls := "NotchSticksModel", name := "plan", desc := "(IIIII)J" } : Jvm.MethodName) prog_17_method_62_code (7 : Nat) (Option.some Jvm.ClassFile.FieldType.long)) ∈ lw_all := lw_g (lw_at lw_m6 231 rfl) rfl
theorem q1542 : (Jvm.Cond.constantLong "NotchSticksModel" (300 : Nat) (-1000000000 : Int64)) ∈ lw_all := lw_g (lw_at lw_m6 232 rfl) rfl
theorem q1543 : (Jvm.Cond.methodLink "NotchSticksModel" (302 : Nat) ({ cls := "NotchSticksModel", name := "plans", desc := "(III)V" } : Jvm.MethodName)) ∈ lw_all := lw_g (lw_at lw_m6 233 rfl) rfl
theorem q1544 : (Jvm.Cond.privateMethod ({ cls := "NotchSticksModel", name := "plans", desc := "(III)V" } : Jvm.MethodName)) ∈ lw_tbl := lw_at lw_m6 234 rfl
theorem q1545 : (Jvm.Cond.instanceMethod ({ cls := "NotchSticksModel", name := "plans", desc := "(III)V" } : Jvm.MethodName)) ∈ lw_all := lw_g (lw_at lw_m6 235 rfl) rfl
theorem q1546 : (Jvm.Cond.code ({ cls := "NotchSticksModel", name := "plans", desc := "(III)V" } : Jvm.MethodName) prog_17_method_60_code (5 : Nat) (Option.none : Option Jvm.ClassFile.FieldType)) ∈ lw_all := lw_g (lw_at lw_m6 236 rfl) rfl
theorem q1547 : (Jvm.Cond.methodLink "NotchSticksModel" (297 : Nat) ({ cls := "NotchSticksModel", name := "dealsLess", desc := "(II)V" } : Jvm.MethodName)) ∈ lw_all := lw_g (lw_at lw_m6 237 rfl) rfl
theorem q1548 : (Jvm.Cond.privateMethod ({ cls := "NotchSticksModel", name := "dealsLess", desc := "(II)V" } : Jvm.MethodName)) ∈ lw_tbl := lw_at lw_m6 238 rfl
theorem q1549 : (Jvm.Cond.instanceMethod ({ cls := "NotchSticksModel", name := "dealsLess", desc := "(II)V" } : Jvm.MethodName)) ∈ lw_all := lw_g (lw_at lw_m6 239 rfl) rfl
theorem q1550 : (Jvm.Cond.code ({ cls := "NotchSticksModel", name := "dealsLess", desc := "(II)V" } : Jvm.MethodName) prog_17_method_59_code (9 : Nat) (Option.none : Option Jvm.ClassFile.FieldType)) ∈ lw_all := lw_g (lw_at lw_m7 0 rfl) rfl
theorem q1551 : (Jvm.Cond.methodLink "NotchSticksModel" (289 : Nat) ({ cls := "NotchSticksModel", name := "keeping", desc := "(III)J" } : Jvm.MethodName)) ∈ lw_all := lw_g (lw_at lw_m7 1 rfl) rfl
theorem q1552 : (Jvm.Cond.privateMethod ({ cls := "NotchSticksModel", name := "keeping", desc := "(III)J" } : Jvm.MethodName)) ∈ lw_tbl := lw_at lw_m7 2 rfl
theorem q1553 : (Jvm.Cond.instanceMethod ({ cls := "NotchSticksModel", name := "keeping", desc := "(III)J" } : Jvm.MethodName)) ∈ lw_all := lw_g (lw_at lw_m7 3 rfl) rfl
theorem q1554 : (Jvm.Cond.code ({ cls := "NotchSticksModel", name := "keeping", desc := "(III)J" } : Jvm.MethodName) prog_17_method_57_code (4 : Nat) (Option.some Jvm.ClassFile.FieldType.long)) ∈ lw_all := lw_g (lw_at lw_m7 4 rfl) rfl
theorem q1555 : (Jvm.Cond.constantLong "NotchSticksModel" (287 : Nat) (1000 : Int64)) ∈ lw_all := lw_g (lw_at lw_m7 5 rfl) rfl
theorem q1556 : (Jvm.Cond.methodLink "NotchSticksModel" (293 : Nat) ({ cls := "NotchSticksModel", name := "breaking", desc := "(IIII)J" } : Jvm.MethodName)) ∈ lw_all := lw_g (lw_at lw_m7 6 rfl) rfl
theorem q1557 : (Jvm.Cond.privateMethod ({ cls := "NotchSticksModel", name := "breaking", desc := "(IIII)J" } : Jvm.MethodName)) ∈ lw_tbl := lw_at lw_m7 7 rfl
theorem q1558 : (Jvm.Cond.instanceMethod ({ cls := "NotchSticksModel", name := "breaking", desc := "(IIII)J" } : Jvm.MethodName)) ∈ lw_all := lw_g (lw_at lw_m7 8 rfl) rfl
theorem q1559 : (Jvm.Cond.code ({ cls := "NotchSticksModel", name := "breaking", desc := "(IIII)J" } : Jvm.MethodName) prog_17_method_58_code (5 : Nat) (Option.some Jvm.ClassFile.FieldType.long)) ∈ lw_all := lw_g (lw_at lw_m7 9 rfl) rfl
theorem q1560 : (Jvm.Cond.methodLink "NotchSticksModel" (305 : Nat) ({ cls := "NotchSticksModel", name := "edgeOf", desc := "(III)I" } : Jvm.MethodName)) ∈ lw_all := lw_g (lw_at lw_m7 10 rfl) rfl
theorem q1561 : (Jvm.Cond.privateMethod ({ cls := "NotchSticksModel", name := "edgeOf", desc := "(III)I" } : Jvm.MethodName)) ∈ lw_tbl := lw_at lw_m7 11 rfl
theorem q1562 : (Jvm.Cond.instanceMethod ({ cls := "NotchSticksModel", name := "edgeOf", desc := "(III)I" } : Jvm.MethodName)) ∈ lw_all := lw_g (lw_at lw_m7 12 rfl) rfl
theorem q1563 : (Jvm.Cond.code ({ cls := "NotchSticksModel", name := "edgeOf", desc := "(III)I" } : Jvm.MethodName) prog_17_method_61_code (5 : Nat) (Option.some Jvm.ClassFile.FieldType.int)) ∈ lw_all := lw_g (lw_at lw_m7 13 rfl) rfl
theorem q1565 : (Jvm.Cond.instanceMethod ({ cls := "NotchSticksModel", name := "longer", desc := "(IIII)J" } : Jvm.MethodName)) ∈ lw_all := lw_g (lw_at lw_m7 15 rfl) rfl
theorem q1566 : (Jvm.Cond.selects "NotchSticksModel" ({ cls := "NotchSticksModel", name := "longer", desc := "(IIII)J" } : Jvm.MethodName) ({ cls := "NotchSticksModel", name := "longer", desc := "(IIII)J" } : Jvm.MethodName)) ∈ lw_all := lw_g (lw_at lw_m7 16 rfl) rfl
theorem q1567 : (Jvm.Cond.code ({ cls := "NotchSticksModel", name := "longer", desc := "(IIII)J" } : Jvm.MethodName) prog_17_method_66_code (9 : Nat) (Option.some Jvm.ClassFile.FieldType.long)) ∈ lw_all := lw_g (lw_at lw_m7 17 rfl) rfl
theorem q1568 : (Jvm.Cond.constantLong "NotchSticksModel" (330 : Nat) (-1 : Int64)) ∈ lw_all := lw_g (lw_at lw_m7 18 rfl) rfl
theorem q1569 : (Jvm.Cond.methodLink "NotchSticksModel" (332 : Nat) ({ cls := "NotchSticksModel", name := "runs", desc := "(III)V" } : Jvm.MethodName)) ∈ lw_all := lw_g (lw_at lw_m7 19 rfl) rfl
theorem q1570 : (Jvm.Cond.privateMethod ({ cls := "NotchSticksModel", name := "runs", desc := "(III)V" } : Jvm.MethodName)) ∈ lw_tbl := lw_at lw_m7 20 rfl
theorem q1571 : (Jvm.Cond.instanceMethod ({ cls := "NotchSticksModel", name := "runs", desc := "(III)V" } : Jvm.MethodName)) ∈ lw_all := lw_g (lw_at lw_m7 21 rfl) rfl
theorem q1572 : (Jvm.Cond.code ({ cls := "NotchSticksModel", name := "runs", desc := "(III)V" } : Jvm.MethodName) prog_17_method_65_code (5 : Nat) (Option.none : Option Jvm.ClassFile.FieldType)) ∈ lw_all := lw_g (lw_at lw_m7 22 rfl) rfl
theorem q1573 : (Jvm.Cond.constantLong "NotchSticksModel" (325 : Nat) (1000000000 : Int64)) ∈ lw_all := lw_g (lw_at lw_m7 23 rfl) rfl
theorem q1574 : (Jvm.Cond.methodLink "NotchSticksModel" (327 : Nat) ({ cls := "NotchSticksModel", name := "aRound", desc := "(II)V" } : Jvm.MethodName)) ∈ lw_all := lw_g (lw_at lw_m7 24 rfl) rfl
theorem q1575 : (Jvm.Cond.privateMethod ({ cls := "NotchSticksModel", name := "aRound", desc := "(II)V" } : Jvm.MethodName)) ∈ lw_tbl := lw_at lw_m7 25 rfl
theorem q1576 : (Jvm.Cond.instanceMethod ({ cls := "NotchSticksModel", name := "aRound", desc := "(II)V" } : Jvm.MethodName)) ∈ lw_all := lw_g (lw_at lw_m7 26 rfl) rfl
theorem q1577 : (Jvm.Cond.code ({ cls := "NotchSticksModel", name := "aRound", desc := "(II)V" } : Jvm.MethodName) prog_17_method_64_code (11 : Nat) (Option.none : Option Jvm.ClassFile.FieldType)) ∈ lw_all := lw_g (lw_at lw_m7 27 rfl) rfl
theorem q1578 : (Jvm.Cond.methodLink "NotchSticksModel" (318 : Nat) ({ cls := "NotchSticksModel", name := "greatestSize", desc := "()I" } : Jvm.MethodName)) ∈ lw_all := lw_g (lw_at lw_m7 28 rfl) rfl
theorem q1579 : (Jvm.Cond.privateMethod ({ cls := "NotchSticksModel", name := "greatestSize", desc := "()I" } : Jvm.MethodName)) ∈ lw_tbl := lw_at lw_m7 29 rfl
theorem q1580 : (Jvm.Cond.instanceMethod ({ cls := "NotchSticksModel", name := "greatestSize", desc := "()I" } : Jvm.MethodName)) ∈ lw_all := lw_g (lw_at lw_m7 30 rfl) rfl
theorem q1581 : (Jvm.Cond.code ({ cls := "NotchSticksModel", name := "greatestSize", desc := "()I" } : Jvm.MethodName) prog_17_method_71_code (2 : Nat) (Option.some Jvm.ClassFile.FieldType.int)) ∈ lw_all := lw_g (lw_at lw_m7 31 rfl) rfl
theorem q1582 : (Jvm.Cond.methodLink "NotchSticksModel" (321 : Nat) ({ cls := "NotchSticksModel", name := "goesOn", desc := "(IIIIJ)V" } : Jvm.MethodName)) ∈ lw_all := lw_g (lw_at lw_m7 32 rfl) rfl
theorem q1583 : (Jvm.Cond.privateMethod ({ cls := "NotchSticksModel", name := "goesOn", desc := "(IIIIJ)V" } : Jvm.MethodName)) ∈ lw_tbl := lw_at lw_m7 33 rfl
theorem q1584 : (Jvm.Cond.instanceMethod ({ cls := "NotchSticksModel", name := "goesOn", desc := "(IIIIJ)V" } : Jvm.MethodName)) ∈ lw_all := lw_g (lw_at lw_m7 34 rfl) rfl
theorem q1585 : (Jvm.Cond.code ({ cls := "NotchSticksModel", name := "goesOn", desc := "(IIIIJ)V" } : Jvm.MethodName) prog_17_method_63_code (9 : Nat) (Option.none : Option Jvm.ClassFile.FieldType)) ∈ lw_all := lw_g (lw_at lw_m7 35 rfl) rfl
theorem q1586 : (Jvm.Cond.constantLong "NotchSticksModel" (335 : Nat) (1000000 : Int64)) ∈ lw_all := lw_g (lw_at lw_m7 36 rfl) rfl
theorem q1588 : (Jvm.Cond.instanceMethod ({ cls := "NotchSticksModel", name := "common", desc := "(III)J" } : Jvm.MethodName)) ∈ lw_all := lw_g (lw_at lw_m7 38 rfl) rfl
theorem q1589 : (Jvm.Cond.selects "NotchSticksModel" ({ cls := "NotchSticksModel", name := "common", desc := "(III)J" } : Jvm.MethodName) ({ cls := "NotchSticksModel", name := "common", desc := "(III)J" } : Jvm.MethodName)) ∈ lw_all := lw_g (lw_at lw_m7 39 rfl) rfl
theorem q1590 : (Jvm.Cond.code ({ cls := "NotchSticksModel", name := "common", desc := "(III)J" } : Jvm.MethodName) prog_17_method_68_code (8 : Nat) (Option.some Jvm.ClassFile.FieldType.long)) ∈ lw_all := lw_g (lw_at lw_m7 40 rfl) rfl
theorem q1591 : (Jvm.Cond.methodLink "NotchSticksModel" (337 : Nat) ({ cls := "NotchSticksModel", name := "millions", desc := "(J)J" } : Jvm.MethodName)) ∈ lw_all := lw_g (lw_at lw_m7 41 rfl) rfl
theorem q1592 : (Jvm.Cond.privateMethod ({ cls := "NotchSticksModel", name := "millions", desc := "(J)J" } : Jvm.MethodName)) ∈ lw_tbl := lw_at lw_m7 42 rfl
theorem q1593 : (Jvm.Cond.instanceMethod ({ cls := "NotchSticksModel", name := "millions", desc := "(J)J" } : Jvm.MethodName)) ∈ lw_all := lw_g (lw_at lw_m7 43 rfl) rfl
theorem q1594 : (Jvm.Cond.code ({ cls := "NotchSticksModel", name := "millions", desc := "(J)J" } : Jvm.MethodName) prog_17_method_67_code (5 : Nat) (Option.some Jvm.ClassFile.FieldType.long)) ∈ lw_all := lw_g (lw_at lw_m7 44 rfl) rfl
theorem q1596 : (Jvm.Cond.instanceMethod ({ cls := "NotchSticksModel", name := "pair", desc := "(IIIIIII)J" } : Jvm.MethodName)) ∈ lw_all := lw_g (lw_at lw_m7 46 rfl) rfl
theorem q1597 : (Jvm.Cond.selects "NotchSticksModel" ({ cls := "NotchSticksModel", name := "pair", desc := "(IIIIIII)J" } : Jvm.MethodName) ({ cls := "NotchSticksModel", name := "pair", desc := "(IIIIIII)J" } : Jvm.MethodName)) ∈ lw_all := lw_g (lw_at lw_m7 47 rfl) rfl
theorem q1598 : (Jvm.Cond.code ({ cls := "NotchSticksModel", name := "pair", desc := "(IIIIIII)J" } : Jvm.MethodName) prog_17_method_75_code (8 : Nat) (Option.some Jvm.ClassFile.FieldType.long)) ∈ lw_all := lw_g (lw_at lw_m7 48 rfl) rfl
theorem q1599 : (Jvm.Cond.methodLink "NotchSticksModel" (364 : Nat) ({ cls := "NotchSticksModel", name := "canPair", desc := "(IIII)Z" } : Jvm.MethodName)) ∈ lw_all := lw_g (lw_at lw_m7 49 rfl) rfl
theorem q1600 : (Jvm.Cond.privateMethod ({ cls := "NotchSticksModel", name := "canPair", desc := "(IIII)Z" } : Jvm.MethodName)) ∈ lw_tbl := lw_at lw_m7 50 rfl
theorem q1601 : (Jvm.Cond.instanceMethod ({ cls := "NotchSticksModel", name := "canPair", desc := "(IIII)Z" } : Jvm.MethodName)) ∈ lw_all := lw_g (lw_at lw_m7 51 rfl) rfl
theorem q1602 : (Jvm.Cond.code ({ cls := "NotchSticksModel", name := "canPair", desc := "(IIII)Z" } : Jvm.MethodName) prog_17_method_74_code (5 : Nat) (Option.some Jvm.ClassFile.FieldType.boolean)) ∈ lw_all := lw_g (lw_at lw_m7 52 rfl) rfl
theorem q1603 : (Jvm.Cond.methodLink "NotchSticksModel" (368 : Nat) ({ cls := "NotchSticksModel", name := "pairs", desc := "(IIIIII)V" } : Jvm.MethodName)) ∈ lw_all := lw_g (lw_at lw_m7 53 rfl) rfl
theorem q1604 : (Jvm.Cond.privateMethod ({ cls := "NotchSticksModel", name := "pairs", desc := "(IIIIII)V" } : Jvm.MethodName)) ∈ lw_tbl := lw_at lw_m7 54 rfl
theorem q1605 : (Jvm.Cond.instanceMethod ({ cls := "NotchSticksModel", name := "pairs", desc := "(IIIIII)V" } : Jvm.MethodName)) ∈ lw_all := lw_g (lw_at lw_m7 55 rfl) rfl
theorem q1606 : (Jvm.Cond.code ({ cls := "NotchSticksModel", name := "pairs", desc := "(IIIIII)V" } : Jvm.MethodName) prog_17_method_73_code (8 : Nat) (Option.none : Option Jvm.ClassFile.FieldType)) ∈ lw_all := lw_g (lw_at lw_m7 56 rfl) rfl
theorem q1607 : (Jvm.Cond.methodLink "NotchSticksModel" (361 : Nat) ({ cls := "NotchSticksModel", name := "onceMore", desc := "(III)V" } : Jvm.MethodName)) ∈ lw_all := lw_g (lw_at lw_m7 57 rfl) rfl
theorem q1608 : (Jvm.Cond.privateMethod ({ cls := "NotchSticksModel", name := "onceMore", desc := "(III)V" } : Jvm.MethodName)) ∈ lw_tbl := lw_at lw_m7 58 rfl
theorem q1609 : (Jvm.Cond.instanceMethod ({ cls := "NotchSticksModel", name := "onceMore", desc := "(III)V" } : Jvm.MethodName)) ∈ lw_all := lw_g (lw_at lw_m7 59 rfl) rfl
theorem q1610 : (Jvm.Cond.code ({ cls := "NotchSticksModel", name := "onceMore", desc := "(III)V" } : Jvm.MethodName) prog_17_method_72_code (12 : Nat) (Option.none : Option Jvm.ClassFile.FieldType)) ∈ lw_all := lw_g (lw_at lw_m7 60 rfl) rfl
theorem q1611 : (Jvm.Cond.methodLink "NotchSticksModel" (351 : Nat) ({ cls := "NotchSticksModel", name := "comesOf", desc := "(IIIIIIJ)V" } : Jvm.MethodName)) ∈ lw_all := lw_g (lw_at lw_m7 61 rfl) rfl
theorem q1612 : (Jvm.Cond.privateMethod ({ cls := "NotchSticksModel", name := "comesOf", desc := "(IIIIIIJ)V" } : Jvm.MethodName)) ∈ lw_tbl := lw_at lw_m7 62 rfl
theorem q1613 : (Jvm.Cond.instanceMethod ({ cls := "NotchSticksModel", name := "comesOf", desc := "(IIIIIIJ)V" } : Jvm.MethodName)) ∈ lw_all := lw_g (lw_at lw_m7 63 rfl) rfl
theorem q1614 : (Jvm.Cond.code ({ cls := "NotchSticksModel", name := "comesOf", desc := "(IIIIIIJ)V" } : Jvm.MethodName) prog_17_method_70_code (12 : Nat) (Option.none : Option Jvm.ClassFile.FieldType)) ∈ lw_all := lw_g (lw_at lw_m7 64 rfl) rfl
theorem q1615 : (Jvm.Cond.methodLink "NotchSticksModel" (341 : Nat) ({ cls := "NotchSticksModel", name := "behind", desc := "(IZI)I" } : Jvm.MethodName)) ∈ lw_all := lw_g (lw_at lw_m7 65 rfl) rfl
theorem q1616 : (Jvm.Cond.privateMethod ({ cls := "NotchSticksModel", name := "behind", desc := "(IZI)I" } : Jvm.MethodName)) ∈ lw_tbl := lw_at lw_m7 66 rfl
theorem q1617 : (Jvm.Cond.instanceMethod ({ cls := "NotchSticksModel", name := "behind", desc := "(IZI)I" } : Jvm.MethodName)) ∈ lw_all := lw_g (lw_at lw_m7 67 rfl) rfl
theorem q1618 : (Jvm.Cond.code ({ cls := "NotchSticksModel", name := "behind", desc := "(IZI)I" } : Jvm.MethodName) prog_17_method_69_code (4 : Nat) (Option.some Jvm.ClassFile.FieldType.int)) ∈ lw_all := lw_g (lw_at lw_m7 68 rfl) rfl
theorem q1620 : (Jvm.Cond.instanceMethod ({ cls := "NotchSticksModel", name := "holds", desc := "(IIIII)I" } : Jvm.MethodName)) ∈ lw_all := lw_g (lw_at lw_m7 70 rfl) rfl
theorem q1621 : (Jvm.Cond.selects "NotchSticksModel" ({ cls := "NotchSticksModel", name := "holds", desc := "(IIIII)I" } : Jvm.MethodName) ({ cls := "NotchSticksModel", name := "holds", desc := "(IIIII)I" } : Jvm.MethodName)) ∈ lw_all := lw_g (lw_at lw_m7 71 rfl) rfl
theorem q1622 : (Jvm.Cond.code ({ cls := "NotchSticksModel", name := "holds", desc := "(IIIII)I" } : Jvm.MethodName) prog_17_method_77_code (15 : Nat) (Option.some Jvm.ClassFile.FieldType.int)) ∈ lw_all := lw_g (lw_at lw_m7 72 rfl) rfl
theorem q1623 : (Jvm.Cond.methodLink "NotchSticksModel" (372 : Nat) ({ cls := "NotchSticksModel", name := "holdsAt", desc := "(II)Z" } : Jvm.MethodName)) ∈ lw_all := lw_g (lw_at lw_m7 73 rfl) rfl
theorem q1624 : (Jvm.Cond.privateMethod ({ cls := "NotchSticksModel", name := "holdsAt", desc := "(II)Z" } : Jvm.MethodName)) ∈ lw_tbl := lw_at lw_m7 74 rfl
theorem q1625 : (Jvm.Cond.instanceMethod ({ cls := "NotchSticksModel", name := "holdsAt", desc := "(II)Z" } : Jvm.MethodName)) ∈ lw_all := lw_g (lw_at lw_m7 75 rfl) rfl
theorem q1626 : (Jvm.Cond.code ({ cls := "NotchSticksModel", name := "holdsAt", desc := "(II)Z" } : Jvm.MethodName) prog_17_method_76_code (4 : Nat) (Option.some Jvm.ClassFile.FieldType.boolean)) ∈ lw_all := lw_g (lw_at lw_m7 76 rfl) rfl
theorem q1628 : (Jvm.Cond.instanceMethod ({ cls := "NotchSticksModel", name := "safe", desc := "()I" } : Jvm.MethodName)) ∈ lw_all := lw_g (lw_at lw_m7 78 rfl) rfl
theorem q1629 : (Jvm.Cond.selects "NotchSticksModel" ({ cls := "NotchSticksModel", name := "safe", desc := "()I" } : Jvm.MethodName) ({ cls := "NotchSticksModel", name := "safe", desc := "()I" } : Jvm.MethodName)) ∈ lw_all := lw_g (lw_at lw_m7 79 rfl) rfl
theorem q1630 : (Jvm.Cond.code ({ cls := "NotchSticksModel", name := "safe", desc := "()I" } : Jvm.MethodName) prog_17_method_78_code (5 : Nat) (Option.some Jvm.ClassFile.FieldType.int)) ∈ lw_all := lw_g (lw_at lw_m7 80 rfl) rfl
theorem q1632 : (Jvm.Cond.instanceMethod ({ cls := "NotchSticksModel", name := "named", desc := "(I)I" } : Jvm.MethodName)) ∈ lw_all := lw_g (lw_at lw_m7 82 rfl) rfl
theorem q1633 : (Jvm.Cond.selects "NotchSticksModel" ({ cls := "NotchSticksModel", name := "named", desc := "(I)I" } : Jvm.MethodName) ({ cls := "NotchSticksModel", name := "named", desc := "(I)I" } : Jvm.MethodName)) ∈ lw_all := lw_g (lw_at lw_m7 83 rfl) rfl
theorem q1634 : (Jvm.Cond.code ({ cls := "NotchSticksModel", name := "named", desc := "(I)I" } : Jvm.MethodName) prog_17_method_80_code (5 : Nat) (Option.some Jvm.ClassFile.FieldType.int)) ∈ lw_all := lw_g (lw_at lw_m7 84 rfl) rfl
theorem q1635 : (Jvm.Cond.methodLink "NotchSticksModel" (375 : Nat) ({ cls := "NotchSticksModel", name := "isAhead", desc := "(II)Z" } : Jvm.MethodName)) ∈ lw_all := lw_g (lw_at lw_m7 85 rfl) rfl
theorem q1636 : (Jvm.Cond.privateMethod ({ cls := "NotchSticksModel", name := "isAhead", desc := "(II)Z" } : Jvm.MethodName)) ∈ lw_tbl := lw_at lw_m7 86 rfl
theorem q1637 : (Jvm.Cond.instanceMethod ({ cls := "NotchSticksModel", name := "isAhead", desc := "(II)Z" } : Jvm.MethodName)) ∈ lw_all := lw_g (lw_at lw_m7 87 rfl) rfl
theorem q1638 : (Jvm.Cond.code ({ cls := "NotchSticksModel", name := "isAhead", desc := "(II)Z" } : Jvm.MethodName) prog_17_method_79_code (4 : Nat) (Option.some Jvm.ClassFile.FieldType.boolean)) ∈ lw_all := lw_g (lw_at lw_m7 88 rfl) rfl
theorem q1640 : (Jvm.Cond.instanceMethod ({ cls := "NotchSticksModel", name := "annals", desc := "(II)I" } : Jvm.MethodName)) ∈ lw_all := lw_g (lw_at lw_m7 90 rfl) rfl
theorem q1641 : (Jvm.Cond.selects "NotchSticksModel" ({ cls := "NotchSticksModel", name := "annals", desc := "(II)I" } : Jvm.MethodName) ({ cls := "NotchSticksModel", name := "annals", desc := "(II)I" } : Jvm.MethodName)) ∈ lw_all := lw_g (lw_at lw_m7 91 rfl) rfl
theorem q1642 : (Jvm.Cond.code ({ cls := "NotchSticksModel", name := "annals", desc := "(II)I" } : Jvm.MethodName) prog_17_method_81_code (8 : Nat) (Option.some Jvm.ClassFile.FieldType.int)) ∈ lw_all := lw_g (lw_at lw_m7 92 rfl) rfl
theorem q1644 : (Jvm.Cond.instanceMethod ({ cls := "NotchSticksModel", name := "rests", desc := "(III)I" } : Jvm.MethodName)) ∈ lw_all := lw_g (lw_at lw_m7 94 rfl) rfl
theorem q1645 : (Jvm.Cond.selects "NotchSticksModel" ({ cls := "NotchSticksModel", name := "rests", desc := "(III)I" } : Jvm.MethodName) ({ cls := "NotchSticksModel", name := "rests", desc := "(III)I" } : Jvm.MethodName)) ∈ lw_all := lw_g (lw_at lw_m7 95 rfl) rfl
theorem q1646 : (Jvm.Cond.code ({ cls := "NotchSticksModel", name := "rests", desc := "(III)I" } : Jvm.MethodName) prog_17_method_84_code (6 : Nat) (Option.some Jvm.ClassFile.FieldType.int)) ∈ lw_all := lw_g (lw_at lw_m7 96 rfl) rfl
theorem q1647 : (Jvm.Cond.methodLink "NotchSticksModel" (382 : Nat) ({ cls := "NotchSticksModel", name := "isReply", desc := "(IIII)Z" } : Jvm.MethodName)) ∈ lw_all := lw_g (lw_at lw_m7 97 rfl) rfl
theorem q1648 : (Jvm.Cond.privateMethod ({ cls := "NotchSticksModel", name := "isReply", desc := "(IIII)Z" } : Jvm.MethodName)) ∈ lw_tbl := lw_at lw_m7 98 rfl
theorem q1649 : (Jvm.Cond.instanceMethod ({ cls := "NotchSticksModel", name := "isReply", desc := "(IIII)Z" } : Jvm.MethodName)) ∈ lw_all := lw_g (lw_at lw_m7 99 rfl) rfl
theorem q1650 : (Jvm.Cond.code ({ cls := "NotchSticksModel", name := "isReply", desc := "(IIII)Z" } : Jvm.MethodName) prog_17_method_83_code (7 : Nat) (Option.some Jvm.ClassFile.FieldType.boolean)) ∈ lw_all := lw_g (lw_at lw_m7 100 rfl) rfl
theorem q1651 : (Jvm.Cond.methodLink "NotchSticksModel" (378 : Nat) ({ cls := "NotchSticksModel", name := "coupleOf", desc := "(IIII)I" } : Jvm.MethodName)) ∈ lw_all := lw_g (lw_at lw_m7 101 rfl) rfl
theorem q1652 : (Jvm.Cond.privateMethod ({ cls := "NotchSticksModel", name := "coupleOf", desc := "(IIII)I" } : Jvm.MethodName)) ∈ lw_tbl := lw_at lw_m7 102 rfl
theorem q1653 : (Jvm.Cond.instanceMethod ({ cls := "NotchSticksModel", name := "coupleOf", desc := "(IIII)I" } : Jvm.MethodName)) ∈ lw_all := lw_g (lw_at lw_m7 103 rfl) rfl
theorem q1654 : (Jvm.Cond.code ({ cls := "NotchSticksModel", name := "coupleOf", desc := "(IIII)I" } : Jvm.MethodName) prog_17_method_82_code (6 : Nat) (Option.some Jvm.ClassFile.FieldType.int)) ∈ lw_all := lw_g (lw_at lw_m7 104 rfl) rfl
theorem q1656 : (Jvm.Cond.instanceMethod ({ cls := "NotchSticksModel", name := "whom", desc := "(II)I" } : Jvm.MethodName)) ∈ lw_all := lw_g (lw_at lw_m7 106 rfl) rfl
theorem q1657 : (Jvm.Cond.selects "NotchSticksModel" ({ cls := "NotchSticksModel", name := "whom", desc := "(II)I" } : Jvm.MethodName) ({ cls := "NotchSticksModel", name := "whom", desc := "(II)I" } : Jvm.MethodName)) ∈ lw_all := lw_g (lw_at lw_m7 107 rfl) rfl
theorem q1658 : (Jvm.Cond.code ({ cls := "NotchSticksModel", name := "whom", desc := "(II)I" } : Jvm.MethodName) prog_17_method_85_code (5 : Nat) (Option.some Jvm.ClassFile.FieldType.int)) ∈ lw_all := lw_g (lw_at lw_m7 108 rfl) rfl
theorem q1660 : (Jvm.Cond.instanceMethod ({ cls := "NotchSticksModel", name := "trust", desc := "(II)I" } : Jvm.MethodName)) ∈ lw_all := lw_g (lw_at lw_m7 110 rfl) rfl
theorem q1661 : (Jvm.Cond.selects "NotchSticksModel" ({ cls := "NotchSticksModel", name := "trust", desc := "(II)I" } : Jvm.MethodName) ({ cls := "NotchSticksModel", name := "trust", desc := "(II)I" } : Jvm.MethodName)) ∈ lw_all := lw_g (lw_at lw_m7 111 rfl) rfl
theorem q1662 : (Jvm.Cond.code ({ cls := "NotchSticksModel", name := "trust", desc := "(II)I" } : Jvm.MethodName) prog_17_method_86_code (7 : Nat) (Option.some Jvm.ClassFile.FieldType.int)) ∈ lw_all := lw_g (lw_at lw_m7 112 rfl) rfl
theorem q1664 : (Jvm.Cond.instanceMethod ({ cls := "NotchSticksModel", name := "held", desc := "(II)I" } : Jvm.MethodName)) ∈ lw_all := lw_g (lw_at lw_m7 114 rfl) rfl
theorem q1665 : (Jvm.Cond.selects "NotchSticksModel" ({ cls := "NotchSticksModel", name := "held", desc := "(II)I" } : Jvm.MethodName) ({ cls := "NotchSticksModel", name := "held", desc := "(II)I" } : Jvm.MethodName)) ∈ lw_all := lw_g (lw_at lw_m7 115 rfl) rfl
theorem q1666 : (Jvm.Cond.code ({ cls := "NotchSticksModel", name := "held", desc := "(II)I" } : Jvm.MethodName) prog_17_method_87_code (7 : Nat) (Option.some Jvm.ClassFile.FieldType.int)) ∈ lw_all := lw_g (lw_at lw_m7 116 rfl) rfl
theorem q1668 : (Jvm.Cond.instanceMethod ({ cls := "NotchSticksModel", name := "lend", desc := "(IIII)Z" } : Jvm.MethodName)) ∈ lw_all := lw_g (lw_at lw_m7 118 rfl) rfl
theorem q1669 : (Jvm.Cond.selects "NotchSticksModel" ({ cls := "NotchSticksModel", name := "lend", desc := "(IIII)Z" } : Jvm.MethodName) ({ cls := "NotchSticksModel", name := "lend", desc := "(IIII)Z" } : Jvm.MethodName)) ∈ lw_all := lw_g (lw_at lw_m7 119 rfl) rfl
theorem q1670 : (Jvm.Cond.code ({ cls := "NotchSticksModel", name := "lend", desc := "(IIII)Z" } : Jvm.MethodName) prog_17_method_88_code (5 : Nat) (Option.some Jvm.ClassFile.FieldType.boolean)) ∈ lw_all := lw_g (lw_at lw_m7 120 rfl) rfl
theorem q1672 : (Jvm.Cond.instanceMethod ({ cls := "NotchSticksModel", name := "thought", desc := "(III)I" } : Jvm.MethodName)) ∈ lw_all := lw_g (lw_at lw_m7 122 rfl) rfl
theorem q1673 : (Jvm.Cond.selects "NotchSticksModel" ({ cls := "NotchSticksModel", name := "thought", desc := "(III)I" } : Jvm.MethodName) ({ cls := "NotchSticksModel", name := "thought", desc := "(III)I" } : Jvm.MethodName)) ∈ lw_all := lw_g (lw_at lw_m7 123 rfl) rfl
theorem q1674 : (Jvm.Cond.code ({ cls := "NotchSticksModel", name := "thought", desc := "(III)I" } : Jvm.MethodName) prog_17_method_93_code (4 : Nat) (Option.some Jvm.ClassFile.FieldType.int)) ∈ lw_all := lw_g (lw_at lw_m7 124 rfl) rfl
theorem q1675 : (Jvm.Cond.methodLink "NotchSticksModel" (401 : Nat) ({ cls := "NotchSticksModel", name := "thinks", desc := "(III)I" } : Jvm.MethodName)) ∈ lw_all := lw_g (lw_at lw_m7 125 rfl) rfl
theorem q1676 : (Jvm.Cond.privateMethod ({ cls := "NotchSticksModel", name := "thinks", desc := "(III)I" } : Jvm.MethodName)) ∈ lw_tbl := lw_at lw_m7 126 rfl
theorem q1677 : (Jvm.Cond.instanceMethod ({ cls := "NotchSticksModel", name := "thinks", desc := "(III)I" } : Jvm.MethodName)) ∈ lw_all := lw_g (lw_at lw_m7 127 rfl) rfl
theorem q1678 : (Jvm.Cond.code ({ cls := "NotchSticksModel", name := "thinks", desc := "(III)I" } : Jvm.MethodName) prog_17_method_92_code (7 : Nat) (Option.some Jvm.ClassFile.FieldType.int)) ∈ lw_all := lw_g (lw_at lw_m7 128 rfl) rfl
theorem q1679 : (Jvm.Cond.methodLink "NotchSticksModel" (394 : Nat) ({ cls := "NotchSticksModel", name := "purses", desc := "()I" } : Jvm.MethodName)) ∈ lw_all := lw_g (lw_at lw_m7 129 rfl) rfl
theorem q1680 : (Jvm.Cond.privateMethod ({ cls := "NotchSticksModel", name := "purses", desc := "()I" } : Jvm.MethodName)) ∈ lw_tbl := lw_at lw_m7 130 rfl
theorem q1681 : (Jvm.Cond.instanceMethod ({ cls := "NotchSticksModel", name := "purses", desc := "()I" } : Jvm.MethodName)) ∈ lw_all := lw_g (lw_at lw_m7 131 rfl) rfl
theorem q1682 : (Jvm.Cond.code ({ cls := "NotchSticksModel", name := "purses", desc := "()I" } : Jvm.MethodName) prog_17_method_91_code (3 : Nat) (Option.some Jvm.ClassFile.FieldType.int)) ∈ lw_all := lw_g (lw_at lw_m7 132 rfl) rfl
theorem q1683 : (Jvm.Cond.methodLink "NotchSticksModel" (397 : Nat) ({ cls := "NotchSticksModel", name := "asides", desc := "(Z)V" } : Jvm.MethodName)) ∈ lw_all := lw_g (lw_at lw_m7 133 rfl) rfl
theorem q1684 : (Jvm.Cond.privateMethod ({ cls := "NotchSticksModel", name := "asides", desc := "(Z)V" } : Jvm.MethodName)) ∈ lw_tbl := lw_at lw_m7 134 rfl
theorem q1685 : (Jvm.Cond.instanceMethod ({ cls := "NotchSticksModel", name := "asides", desc := "(Z)V" } : Jvm.MethodName)) ∈ lw_all := lw_g (lw_at lw_m7 135 rfl) rfl
theorem q1686 : (Jvm.Cond.code ({ cls := "NotchSticksModel", name := "asides", desc := "(Z)V" } : Jvm.MethodName) prog_17_method_90_code (3 : Nat) (Option.none : Option Jvm.ClassFile.FieldType)) ∈ lw_all := lw_g (lw_at lw_m7 136 rfl) rfl
theorem q1687 : (Jvm.Cond.methodLink "NotchSticksModel" (391 : Nat) ({ cls := "NotchSticksModel", name := "putAside", desc := "(I)I" } : Jvm.MethodName)) ∈ lw_all := lw_g (lw_at lw_m7 137 rfl) rfl
theorem q1688 : (Jvm.Cond.privateMethod ({ cls := "NotchSticksModel", name := "putAside", desc := "(I)I" } : Jvm.MethodName)) ∈ lw_tbl := lw_at lw_m7 138 rfl
theorem q1689 : (Jvm.Cond.instanceMethod ({ cls := "NotchSticksModel", name := "putAside", desc := "(I)I" } : Jvm.MethodName)) ∈ lw_all := lw_g (lw_at lw_m7 139 rfl) rfl
theorem q1690 : (Jvm.Cond.code ({ cls := "NotchSticksModel", name := "putAside", desc := "(I)I" } : Jvm.MethodName) prog_17_method_89_code (2 : Nat) (Option.some Jvm.ClassFile.FieldType.int)) ∈ lw_all := lw_g (lw_at lw_m7 140 rfl) rfl
theorem q1692 : (Jvm.Cond.instanceMethod ({ cls := "NotchSticksModel", name := "told", desc := "(III)I" } : Jvm.MethodName)) ∈ lw_all := lw_g (lw_at lw_m7 142 rfl) rfl
theorem q1693 : (Jvm.Cond.selects "NotchSticksModel" ({ cls := "NotchSticksModel", name := "told", desc := "(III)I" } : Jvm.MethodName) ({ cls := "NotchSticksModel", name := "told", desc := "(III)I" } : Jvm.MethodName)) ∈ lw_all := lw_g (lw_at lw_m7 143 rfl) rfl
theorem q1694 : (Jvm.Cond.code ({ cls := "NotchSticksModel", name := "told", desc := "(III)I" } : Jvm.MethodName) prog_17_method_94_code (5 : Nat) (Option.some Jvm.ClassFile.FieldType.int)) ∈ lw_all := lw_g (lw_at lw_m7 144 rfl) rfl
theorem q1696 : (Jvm.Cond.instanceMethod ({ cls := "NotchSticksModel", name := "image", desc := "(Z)Z" } : Jvm.MethodName)) ∈ lw_all := lw_g (lw_at lw_m7 146 rfl) rfl
theorem q1697 : (Jvm.Cond.selects "NotchSticksModel" ({ cls := "NotchSticksModel", name := "image", desc := "(Z)Z" } : Jvm.MethodName) ({ cls := "NotchSticksModel", name := "image", desc := "(Z)Z" } : Jvm.MethodName)) ∈ lw_all := lw_g (lw_at lw_m7 147 rfl) rfl
theorem q1698 : (Jvm.Cond.code ({ cls := "NotchSticksModel", name := "image", desc := "(Z)Z" } : Jvm.MethodName) prog_17_method_96_code (3 : Nat) (Option.some Jvm.ClassFile.FieldType.boolean)) ∈ lw_all := lw_g (lw_at lw_m7 148 rfl) rfl
theorem q1699 : (Jvm.Cond.methodLink "NotchSticksModel" (410 : Nat) ({ cls := "NotchSticksModel", name := "keptText", desc := "(I)I" } : Jvm.MethodName)) ∈ lw_all := lw_g (lw_at lw_m7 149 rfl) rfl
theorem q1700 : (Jvm.Cond.privateMethod ({ cls := "NotchSticksModel", name := "keptText", desc := "(I)I" } : Jvm.MethodName)) ∈ lw_tbl := lw_at lw_m7 150 rfl
theorem q1701 : (Jvm.Cond.instanceMethod ({ cls := "NotchSticksModel", name := "keptText", desc := "(I)I" } : Jvm.MethodName)) ∈ lw_all := lw_g (lw_at lw_m7 151 rfl) rfl
theorem q1702 : (Jvm.Cond.code ({ cls := "NotchSticksModel", name := "keptText", desc := "(I)I" } : Jvm.MethodName) prog_17_method_95_code (2 : Nat) (Option.some Jvm.ClassFile.FieldType.int)) ∈ lw_all := lw_g (lw_at lw_m7 152 rfl) rfl
theorem q1704 : (Jvm.Cond.instanceMethod ({ cls := "NotchSticksModel", name := "look", desc := "(I)I" } : Jvm.MethodName)) ∈ lw_all := lw_g (lw_at lw_m7 154 rfl) rfl
theorem q1705 : (Jvm.Cond.selects "NotchSticksModel" ({ cls := "NotchSticksModel", name := "look", desc := "(I)I" } : Jvm.MethodName) ({ cls := "NotchSticksModel", name := "look", desc := "(I)I" } : Jvm.MethodName)) ∈ lw_all := lw_g (lw_at lw_m7 155 rfl) rfl
theorem q1706 : (Jvm.Cond.code ({ cls := "NotchSticksModel", name := "look", desc := "(I)I" } : Jvm.MethodName) prog_17_method_97_code (2 : Nat) (Option.some Jvm.ClassFile.FieldType.int)) ∈ lw_all := lw_g (lw_at lw_m7 156 rfl) rfl
theorem q1716 : (Jvm.Cond.castable "NotchSticksModel" "java/lang/Object") ∈ lw_tbl := lw_at lw_m7 166 rfl
theorem in_X6 : ∀ w ∈ wsX60, w ∈ lw_all := lw_in wsX60 [1206, 1208, 1210, 1212, 1214, 1216, 1218, 1220, 1222, 1224, 1226, 1228, 1230, 1232, 1234, 1236, 1238, 1240, 1242, 1244, 1246, 1248, 1250, 1252, 1254, 1256, 1258, 1260, 1262, 1264, 1266, 1268, 1270, 1272, 1274, 1276, 1278, 1280, 1282, 1284, 1286, 1288, 1290, 1292, 1294, 1296, 1298, 1300, 1302, 1304, 1306, 1308, 1310, 1312, 1314, 1316] (by decide +kernel) (by decide +kernel)
