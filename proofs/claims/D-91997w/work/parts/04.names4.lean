/-! SaidSoModel -/
set_option maxRecDepth 100000
def RX4 : String := "SaidSoModel"
def TX4 : u_T := fun k => match k with
  | 0 => ("SaidSoModel", "tape", "[I", true)
  | 1 => ("SaidSoModel", "tapeSize", "I", false)
  | 2 => ("SaidSoModel", "thrown", "I", false)
  | 3 => ("SaidSoModel", "words", "[I", true)
  | 4 => ("SaidSoModel", "fault", "I", false)
  | 5 => ("SaidSoModel", "faultPlace", "I", false)
  | 6 => ("SaidSoModel", "stop", "I", false)
  | 7 => ("SaidSoModel", "next", "I", false)
  | 8 => ("SaidSoModel", "kind", "I", false)
  | 9 => ("SaidSoModel", "which", "I", false)
  | 10 => ("SaidSoModel", "at", "I", false)
  | 11 => ("SaidSoModel", "things", "I", false)
  | 12 => ("SaidSoModel", "tellers", "I", false)
  | 13 => ("SaidSoModel", "talks", "I", false)
  | 14 => ("SaidSoModel", "pages", "I", false)
  | 15 => ("SaidSoModel", "knots", "I", false)
  | 16 => ("SaidSoModel", "thingsRead", "I", false)
  | 17 => ("SaidSoModel", "tellersRead", "I", false)
  | 18 => ("SaidSoModel", "talksRead", "I", false)
  | 19 => ("SaidSoModel", "pagesRead", "I", false)
  | 20 => ("SaidSoModel", "knotsRead", "I", false)
  | 21 => ("SaidSoModel", "thingName", "[I", true)
  | 22 => ("SaidSoModel", "ways", "[I", true)
  | 23 => ("SaidSoModel", "isSo", "[I", true)
  | 24 => ("SaidSoModel", "paper", "[I", true)
  | 25 => ("SaidSoModel", "police", "[I", true)
  | 26 => ("SaidSoModel", "tellerName", "[I", true)
  | 27 => ("SaidSoModel", "age", "[I", true)
  | 28 => ("SaidSoModel", "begins", "[I", true)
  | 29 => ("SaidSoModel", "finishes", "[I", true)
  | 30 => ("SaidSoModel", "taped", "[I", true)
  | 31 => ("SaidSoModel", "isWord", "[Z", true)
  | 32 => ("SaidSoModel", "who", "[I", true)
  | 33 => ("SaidSoModel", "hour", "[I", true)
  | 34 => ("SaidSoModel", "thing", "[I", true)
  | 35 => ("SaidSoModel", "value", "[I", true)
  | 36 => ("SaidSoModel", "pageWho", "[I", true)
  | 37 => ("SaidSoModel", "pageThing", "[I", true)
  | 38 => ("SaidSoModel", "pageValue", "[I", true)
  | 39 => ("SaidSoModel", "first", "[I", true)
  | 40 => ("SaidSoModel", "last", "[I", true)
  | 41 => ("SaidSoModel", "knot", "[I", true)
  | 42 => ("SaidSoModel", "part", "[I", true)
  | 43 => ("SaidSoModel", "other", "[I", true)
  | 44 => ("SaidSoModel", "told", "I", false)
  | 45 => ("SaidSoModel", "heard", "I", false)
  | 46 => ("SaidSoModel", "were", "I", false)
  | 47 => ("SaidSoModel", "truth", "I", false)
  | 48 => ("SaidSoModel", "oddsFor", "I", false)
  | 49 => ("SaidSoModel", "oddsAgainst", "I", false)
  | 50 => ("SaidSoModel", "wait", "[I", true)
  | 51 => ("SaidSoModel", "held", "[I", true)
  | 52 => ("SaidSoModel", "waits", "I", false)
  | 53 => ("SaidSoModel", "helds", "I", false)
  | 54 => ("SaidSoModel", "brackets", "I", false)
  | 55 => ("SaidSoModel", "counted", "I", false)
  | 56 => ("SaidSoModel", "wants", "Z", false)
  | 57 => ("SaidSoModel", "mayNot", "Z", false)
  | 58 => ("SaidSoModel", "oddsA", "J", false)
  | 59 => ("SaidSoModel", "oddsB", "J", false)
  | 60 => ("SaidSoModel", "said", "[I", true)
  | 61 => ("SaidSoModel", "long1", "[I", true)
  | 62 => ("SaidSoModel", "names", "[J", true)
  | 63 => ("SaidSoModel", "worth", "[J", true)
  | 64 => ("SaidSoModel", "isError", "Z", false)
  | _ => ("SaidSoModel", "seedNow", "J", false)
def tyX4 : Nat → FieldType := fun k => match k with
  | 0 => .array .int
  | 1 => .int
  | 2 => .int
  | 3 => .array .int
  | 4 => .int
  | 5 => .int
  | 6 => .int
  | 7 => .int
  | 8 => .int
  | 9 => .int
  | 10 => .int
  | 11 => .int
  | 12 => .int
  | 13 => .int
  | 14 => .int
  | 15 => .int
  | 16 => .int
  | 17 => .int
  | 18 => .int
  | 19 => .int
  | 20 => .int
  | 21 => .array .int
  | 22 => .array .int
  | 23 => .array .int
  | 24 => .array .int
  | 25 => .array .int
  | 26 => .array .int
  | 27 => .array .int
  | 28 => .array .int
  | 29 => .array .int
  | 30 => .array .int
  | 31 => .array .boolean
  | 32 => .array .int
  | 33 => .array .int
  | 34 => .array .int
  | 35 => .array .int
  | 36 => .array .int
  | 37 => .array .int
  | 38 => .array .int
  | 39 => .array .int
  | 40 => .array .int
  | 41 => .array .int
  | 42 => .array .int
  | 43 => .array .int
  | 44 => .int
  | 45 => .int
  | 46 => .int
  | 47 => .int
  | 48 => .int
  | 49 => .int
  | 50 => .array .int
  | 51 => .array .int
  | 52 => .int
  | 53 => .int
  | 54 => .int
  | 55 => .int
  | 56 => .boolean
  | 57 => .boolean
  | 58 => .long
  | 59 => .long
  | 60 => .array .int
  | 61 => .array .int
  | 62 => .array .long
  | 63 => .array .long
  | 64 => .boolean
  | _ => .long
abbrev wsX40 : List Cond := u_ws RX4 TX4 66
set_option maxRecDepth 100000 in
theorem nmX4 : ∀ a, a < 66 → ∀ b, b < 66 → a ≠ b → (TX4 a).2.1 ≠ (TX4 b).2.1 := by decide +kernel
set_option maxRecDepth 100000 in
theorem tyX4_ok : ∀ k, k < 66 → parseFieldDescriptor (TX4 k).2.2.1 = some (tyX4 k) := by decide +kernel
abbrev cX4_init : ByteArray := prog_18_method_1_code
def yX4_init : MethodName := ⟨RX4, "<init>", "()V"⟩
def dkwX4_init_44 : List UInt8 := [16, 10, 188, 11, 181, 0, 111, 42, 16, 64, 188, 11, 181, 0, 115, 42, 182, 0, 118, 42, 182, 0, 121, 177]
abbrev dktX4_init_44 : List UInt8 := dkwX4_init_44 ++ []
def dkwX4_init_43 : List UInt8 := [16, 96, 188, 10, 181, 0, 102, 42, 16, 20, 188, 10, 181, 0, 105, 42, 16, 20, 188, 10, 181, 0, 108, 42]
abbrev dktX4_init_43 : List UInt8 := dkwX4_init_43 ++ dktX4_init_44
def dkwX4_init_42 : List UInt8 := [16, 9, 181, 0, 90, 42, 4, 181, 0, 93, 42, 4, 181, 0, 96, 42, 16, 96, 188, 10, 181, 0, 99, 42]
abbrev dktX4_init_42 : List UInt8 := dkwX4_init_42 ++ dktX4_init_43
def dkwX4_init_41 : List UInt8 := [188, 10, 181, 0, 81, 42, 17, 0, 128, 188, 10, 181, 0, 84, 42, 17, 0, 128, 188, 10, 181, 0, 87, 42]
abbrev dktX4_init_41 : List UInt8 := dkwX4_init_41 ++ dktX4_init_42
def dkwX4_init_40 : List UInt8 := [181, 0, 72, 42, 16, 6, 188, 10, 181, 0, 75, 42, 16, 6, 188, 10, 181, 0, 78, 42, 17, 0, 128]
abbrev dktX4_init_40 : List UInt8 := dkwX4_init_40 ++ dktX4_init_41
def dkwX4_init_39 : List UInt8 := [181, 0, 63, 42, 16, 40, 188, 10, 181, 0, 66, 42, 16, 40, 188, 10, 181, 0, 69, 42, 16, 40, 188, 10]
abbrev dktX4_init_39 : List UInt8 := dkwX4_init_39 ++ dktX4_init_40
def dkwX4_init_38 : List UInt8 := [181, 0, 54, 42, 16, 120, 188, 10, 181, 0, 57, 42, 16, 120, 188, 10, 181, 0, 60, 42, 16, 120, 188, 10]
abbrev dktX4_init_38 : List UInt8 := dkwX4_init_38 ++ dktX4_init_39
def dkwX4_init_37 : List UInt8 := [181, 0, 44, 42, 16, 10, 188, 10, 181, 0, 47, 42, 16, 120, 188, 4, 181, 0, 50, 42, 16, 120, 188, 10]
abbrev dktX4_init_37 : List UInt8 := dkwX4_init_37 ++ dktX4_init_38
def dkwX4_init_36 : List UInt8 := [181, 0, 35, 42, 16, 10, 188, 10, 181, 0, 38, 42, 16, 10, 188, 10, 181, 0, 41, 42, 16, 10, 188, 10]
abbrev dktX4_init_36 : List UInt8 := dkwX4_init_36 ++ dktX4_init_37
def dkwX4_init_35 : List UInt8 := [181, 0, 26, 42, 16, 16, 188, 10, 181, 0, 29, 42, 16, 16, 188, 10, 181, 0, 32, 42, 16, 10, 188, 10]
abbrev dktX4_init_35 : List UInt8 := dkwX4_init_35 ++ dktX4_init_36
def dkwX4_init_34 : List UInt8 := [181, 0, 16, 42, 16, 16, 188, 10, 181, 0, 20, 42, 16, 16, 188, 10, 181, 0, 23, 42, 16, 16, 188, 10]
abbrev dktX4_init_34 : List UInt8 := dkwX4_init_34 ++ dktX4_init_35
def dkwX4_init_33 : List UInt8 := [16, 101, 79, 89, 17, 0, 130, 16, 115, 79, 89, 17, 0, 131, 16, 32, 79, 181, 0, 13, 42, 2]
abbrev dktX4_init_33 : List UInt8 := dkwX4_init_33 ++ dktX4_init_34
def dkwX4_init_32 : List UInt8 := [79, 89, 16, 126, 16, 108, 79, 89, 16, 127, 16, 105, 79, 89, 17, 0, 128, 16, 110, 79, 89, 17, 0, 129]
abbrev dktX4_init_32 : List UInt8 := dkwX4_init_32 ++ dktX4_init_33
def dkwX4_init_31 : List UInt8 := [79, 89, 16, 122, 16, 112, 79, 89, 16, 123, 16, 117, 79, 89, 16, 124, 16, 116, 79, 89, 16, 125, 16, 32]
abbrev dktX4_init_31 : List UInt8 := dkwX4_init_31 ++ dktX4_init_32
def dkwX4_init_30 : List UInt8 := [79, 89, 16, 118, 16, 110, 79, 89, 16, 119, 16, 101, 79, 89, 16, 120, 16, 119, 79, 89, 16, 121, 16, 32]
abbrev dktX4_init_30 : List UInt8 := dkwX4_init_30 ++ dktX4_init_31
def dkwX4_init_29 : List UInt8 := [79, 89, 16, 114, 16, 111, 79, 89, 16, 115, 16, 110, 79, 89, 16, 116, 16, 103, 79, 89, 16, 117, 16, 32]
abbrev dktX4_init_29 : List UInt8 := dkwX4_init_29 ++ dktX4_init_30
def dkwX4_init_28 : List UInt8 := [79, 89, 16, 110, 16, 116, 79, 89, 16, 111, 16, 32, 79, 89, 16, 112, 16, 119, 79, 89, 16, 113, 16, 114]
abbrev dktX4_init_28 : List UInt8 := dkwX4_init_28 ++ dktX4_init_29
def dkwX4_init_27 : List UInt8 := [79, 89, 16, 106, 16, 114, 79, 89, 16, 107, 16, 105, 79, 89, 16, 108, 16, 103, 79, 89, 16, 109, 16, 104]
abbrev dktX4_init_27 : List UInt8 := dkwX4_init_27 ++ dktX4_init_28
def dkwX4_init_26 : List UInt8 := [79, 89, 16, 102, 16, 108, 79, 89, 16, 103, 16, 101, 79, 89, 16, 104, 16, 100, 79, 89, 16, 105, 16, 32]
abbrev dktX4_init_26 : List UInt8 := dkwX4_init_26 ++ dktX4_init_27
def dkwX4_init_25 : List UInt8 := [79, 89, 16, 98, 16, 115, 79, 89, 16, 99, 16, 107, 79, 89, 16, 100, 16, 115, 79, 89, 16, 101, 16, 32]
abbrev dktX4_init_25 : List UInt8 := dkwX4_init_25 ++ dktX4_init_26
def dkwX4_init_24 : List UInt8 := [79, 89, 16, 94, 16, 102, 79, 89, 16, 95, 16, 102, 79, 89, 16, 96, 16, 32, 79, 89, 16, 97, 16, 97]
abbrev dktX4_init_24 : List UInt8 := dkwX4_init_24 ++ dktX4_init_25
def dkwX4_init_23 : List UInt8 := [79, 89, 16, 90, 16, 114, 79, 89, 16, 91, 16, 115, 79, 89, 16, 92, 16, 32, 79, 89, 16, 93, 16, 111]
abbrev dktX4_init_23 : List UInt8 := dkwX4_init_23 ++ dktX4_init_24
def dkwX4_init_22 : List UInt8 := [79, 89, 16, 86, 16, 32, 79, 89, 16, 87, 16, 104, 79, 89, 16, 88, 16, 111, 79, 89, 16, 89, 16, 117]
abbrev dktX4_init_22 : List UInt8 := dkwX4_init_22 ++ dktX4_init_23
def dkwX4_init_21 : List UInt8 := [79, 89, 16, 82, 16, 32, 79, 89, 16, 83, 16, 97, 79, 89, 16, 84, 16, 103, 79, 89, 16, 85, 16, 101]
abbrev dktX4_init_21 : List UInt8 := dkwX4_init_21 ++ dktX4_init_22
def dkwX4_init_20 : List UInt8 := [79, 89, 16, 78, 16, 32, 79, 89, 16, 79, 16, 110, 79, 89, 16, 80, 16, 111, 79, 89, 16, 81, 16, 116]
abbrev dktX4_init_20 : List UInt8 := dkwX4_init_20 ++ dktX4_init_21
def dkwX4_init_19 : List UInt8 := [79, 89, 16, 74, 16, 100, 79, 89, 16, 75, 16, 32, 79, 89, 16, 76, 16, 111, 79, 89, 16, 77, 16, 114]
abbrev dktX4_init_19 : List UInt8 := dkwX4_init_19 ++ dktX4_init_20
def dkwX4_init_18 : List UInt8 := [79, 89, 16, 70, 16, 101, 79, 89, 16, 71, 16, 32, 79, 89, 16, 72, 16, 97, 79, 89, 16, 73, 16, 110]
abbrev dktX4_init_18 : List UInt8 := dkwX4_init_18 ++ dktX4_init_19
def dkwX4_init_17 : List UInt8 := [79, 89, 16, 66, 16, 32, 79, 89, 16, 67, 16, 116, 79, 89, 16, 68, 16, 97, 79, 89, 16, 69, 16, 112]
abbrev dktX4_init_17 : List UInt8 := dkwX4_init_17 ++ dktX4_init_18
def dkwX4_init_16 : List UInt8 := [79, 89, 16, 62, 16, 101, 79, 89, 16, 63, 16, 110, 79, 89, 16, 64, 16, 100, 79, 89, 16, 65, 16, 115]
abbrev dktX4_init_16 : List UInt8 := dkwX4_init_16 ++ dktX4_init_17
def dkwX4_init_15 : List UInt8 := [79, 89, 16, 58, 16, 105, 79, 89, 16, 59, 16, 110, 79, 89, 16, 60, 16, 115, 79, 89, 16, 61, 16, 32]
abbrev dktX4_init_15 : List UInt8 := dkwX4_init_15 ++ dktX4_init_16
def dkwX4_init_14 : List UInt8 := [79, 89, 16, 54, 16, 32, 79, 89, 16, 55, 16, 98, 79, 89, 16, 56, 16, 101, 79, 89, 16, 57, 16, 103]
abbrev dktX4_init_14 : List UInt8 := dkwX4_init_14 ++ dktX4_init_15
def dkwX4_init_13 : List UInt8 := [79, 89, 16, 50, 16, 108, 79, 89, 16, 51, 16, 105, 79, 89, 16, 52, 16, 99, 79, 89, 16, 53, 16, 101]
abbrev dktX4_init_13 : List UInt8 := dkwX4_init_13 ++ dktX4_init_14
def dkwX4_init_12 : List UInt8 := [79, 89, 16, 46, 16, 114, 79, 89, 16, 47, 16, 32, 79, 89, 16, 48, 16, 112, 79, 89, 16, 49, 16, 111]
abbrev dktX4_init_12 : List UInt8 := dkwX4_init_12 ++ dktX4_init_13
def dkwX4_init_11 : List UInt8 := [79, 89, 16, 42, 16, 112, 79, 89, 16, 43, 16, 97, 79, 89, 16, 44, 16, 112, 79, 89, 16, 45, 16, 101]
abbrev dktX4_init_11 : List UInt8 := dkwX4_init_11 ++ dktX4_init_12
def dkwX4_init_10 : List UInt8 := [79, 89, 16, 38, 16, 32, 79, 89, 16, 39, 16, 105, 79, 89, 16, 40, 16, 115, 79, 89, 16, 41, 16, 32]
abbrev dktX4_init_10 : List UInt8 := dkwX4_init_10 ++ dktX4_init_11
def dkwX4_init_9 : List UInt8 := [79, 89, 16, 34, 16, 106, 79, 89, 16, 35, 16, 117, 79, 89, 16, 36, 16, 114, 79, 89, 16, 37, 16, 121]
abbrev dktX4_init_9 : List UInt8 := dkwX4_init_9 ++ dktX4_init_10
def dkwX4_init_8 : List UInt8 := [79, 89, 16, 30, 16, 98, 79, 89, 16, 31, 16, 97, 79, 89, 16, 32, 16, 114, 79, 89, 16, 33, 16, 32]
abbrev dktX4_init_8 : List UInt8 := dkwX4_init_8 ++ dktX4_init_9
def dkwX4_init_7 : List UInt8 := [79, 89, 16, 26, 16, 108, 79, 89, 16, 27, 16, 97, 79, 89, 16, 28, 16, 119, 79, 89, 16, 29, 16, 32]
abbrev dktX4_init_7 : List UInt8 := dkwX4_init_7 ++ dktX4_init_8
def dkwX4_init_6 : List UInt8 := [79, 89, 16, 22, 16, 97, 79, 89, 16, 23, 16, 103, 79, 89, 16, 24, 16, 101, 79, 89, 16, 25, 16, 32]
abbrev dktX4_init_6 : List UInt8 := dkwX4_init_6 ++ dktX4_init_7
def dkwX4_init_5 : List UInt8 := [79, 89, 16, 18, 16, 97, 79, 89, 16, 19, 16, 121, 79, 89, 16, 20, 16, 32, 79, 89, 16, 21, 16, 112]
abbrev dktX4_init_5 : List UInt8 := dkwX4_init_5 ++ dktX4_init_6
def dkwX4_init_4 : List UInt8 := [79, 89, 16, 14, 16, 115, 79, 89, 16, 15, 16, 107, 79, 89, 16, 16, 16, 32, 79, 89, 16, 17, 16, 115]
abbrev dktX4_init_4 : List UInt8 := dkwX4_init_4 ++ dktX4_init_5
def dkwX4_init_3 : List UInt8 := [79, 89, 16, 10, 16, 101, 79, 89, 16, 11, 16, 114, 79, 89, 16, 12, 16, 32, 79, 89, 16, 13, 16, 97]
abbrev dktX4_init_3 : List UInt8 := dkwX4_init_3 ++ dktX4_init_4
def dkwX4_init_2 : List UInt8 := [79, 89, 16, 6, 16, 116, 79, 89, 16, 7, 16, 101, 79, 89, 16, 8, 16, 108, 79, 89, 16, 9, 16, 108]
abbrev dktX4_init_2 : List UInt8 := dkwX4_init_2 ++ dktX4_init_3
def dkwX4_init_1 : List UInt8 := [89, 4, 16, 104, 79, 89, 5, 16, 105, 79, 89, 6, 16, 110, 79, 89, 7, 16, 103, 79, 89, 8, 16, 32]
abbrev dktX4_init_1 : List UInt8 := dkwX4_init_1 ++ dktX4_init_2
def dkwX4_init_0 : List UInt8 := [42, 183, 0, 1, 42, 17, 3, 32, 188, 10, 181, 0, 7, 42, 17, 0, 132, 188, 10, 89, 3, 16, 116, 79]
abbrev dktX4_init_0 : List UInt8 := dkwX4_init_0 ++ dktX4_init_1
theorem dksX4_init_0 : cX4_init.data.toList.drop 0 = dktX4_init_0 := by decide +kernel
theorem dksX4_init_1 : cX4_init.data.toList.drop 24 = dktX4_init_1 := dk_seg dksX4_init_0 24 rfl rfl
theorem dksX4_init_2 : cX4_init.data.toList.drop 48 = dktX4_init_2 := dk_seg dksX4_init_1 24 rfl rfl
theorem dksX4_init_3 : cX4_init.data.toList.drop 72 = dktX4_init_3 := dk_seg dksX4_init_2 24 rfl rfl
theorem dksX4_init_4 : cX4_init.data.toList.drop 96 = dktX4_init_4 := dk_seg dksX4_init_3 24 rfl rfl
theorem dksX4_init_5 : cX4_init.data.toList.drop 120 = dktX4_init_5 := dk_seg dksX4_init_4 24 rfl rfl
theorem dksX4_init_6 : cX4_init.data.toList.drop 144 = dktX4_init_6 := dk_seg dksX4_init_5 24 rfl rfl
theorem dksX4_init_7 : cX4_init.data.toList.drop 168 = dktX4_init_7 := dk_seg dksX4_init_6 24 rfl rfl
theorem dksX4_init_8 : cX4_init.data.toList.drop 192 = dktX4_init_8 := dk_seg dksX4_init_7 24 rfl rfl
theorem dksX4_init_9 : cX4_init.data.toList.drop 216 = dktX4_init_9 := dk_seg dksX4_init_8 24 rfl rfl
theorem dksX4_init_10 : cX4_init.data.toList.drop 240 = dktX4_init_10 := dk_seg dksX4_init_9 24 rfl rfl
theorem dksX4_init_11 : cX4_init.data.toList.drop 264 = dktX4_init_11 := dk_seg dksX4_init_10 24 rfl rfl
theorem dksX4_init_12 : cX4_init.data.toList.drop 288 = dktX4_init_12 := dk_seg dksX4_init_11 24 rfl rfl
theorem dksX4_init_13 : cX4_init.data.toList.drop 312 = dktX4_init_13 := dk_seg dksX4_init_12 24 rfl rfl
theorem dksX4_init_14 : cX4_init.data.toList.drop 336 = dktX4_init_14 := dk_seg dksX4_init_13 24 rfl rfl
theorem dksX4_init_15 : cX4_init.data.toList.drop 360 = dktX4_init_15 := dk_seg dksX4_init_14 24 rfl rfl
theorem dksX4_init_16 : cX4_init.data.toList.drop 384 = dktX4_init_16 := dk_seg dksX4_init_15 24 rfl rfl
theorem dksX4_init_17 : cX4_init.data.toList.drop 408 = dktX4_init_17 := dk_seg dksX4_init_16 24 rfl rfl
theorem dksX4_init_18 : cX4_init.data.toList.drop 432 = dktX4_init_18 := dk_seg dksX4_init_17 24 rfl rfl
theorem dksX4_init_19 : cX4_init.data.toList.drop 456 = dktX4_init_19 := dk_seg dksX4_init_18 24 rfl rfl
theorem dksX4_init_20 : cX4_init.data.toList.drop 480 = dktX4_init_20 := dk_seg dksX4_init_19 24 rfl rfl
theorem dksX4_init_21 : cX4_init.data.toList.drop 504 = dktX4_init_21 := dk_seg dksX4_init_20 24 rfl rfl
theorem dksX4_init_22 : cX4_init.data.toList.drop 528 = dktX4_init_22 := dk_seg dksX4_init_21 24 rfl rfl
theorem dksX4_init_23 : cX4_init.data.toList.drop 552 = dktX4_init_23 := dk_seg dksX4_init_22 24 rfl rfl
theorem dksX4_init_24 : cX4_init.data.toList.drop 576 = dktX4_init_24 := dk_seg dksX4_init_23 24 rfl rfl
theorem dksX4_init_25 : cX4_init.data.toList.drop 600 = dktX4_init_25 := dk_seg dksX4_init_24 24 rfl rfl
theorem dksX4_init_26 : cX4_init.data.toList.drop 624 = dktX4_init_26 := dk_seg dksX4_init_25 24 rfl rfl
theorem dksX4_init_27 : cX4_init.data.toList.drop 648 = dktX4_init_27 := dk_seg dksX4_init_26 24 rfl rfl
theorem dksX4_init_28 : cX4_init.data.toList.drop 672 = dktX4_init_28 := dk_seg dksX4_init_27 24 rfl rfl
theorem dksX4_init_29 : cX4_init.data.toList.drop 696 = dktX4_init_29 := dk_seg dksX4_init_28 24 rfl rfl
theorem dksX4_init_30 : cX4_init.data.toList.drop 720 = dktX4_init_30 := dk_seg dksX4_init_29 24 rfl rfl
theorem dksX4_init_31 : cX4_init.data.toList.drop 744 = dktX4_init_31 := dk_seg dksX4_init_30 24 rfl rfl
theorem dksX4_init_32 : cX4_init.data.toList.drop 768 = dktX4_init_32 := dk_seg dksX4_init_31 24 rfl rfl
theorem dksX4_init_33 : cX4_init.data.toList.drop 792 = dktX4_init_33 := dk_seg dksX4_init_32 24 rfl rfl
theorem dksX4_init_34 : cX4_init.data.toList.drop 814 = dktX4_init_34 := dk_seg dksX4_init_33 22 rfl rfl
theorem dksX4_init_35 : cX4_init.data.toList.drop 838 = dktX4_init_35 := dk_seg dksX4_init_34 24 rfl rfl
theorem dksX4_init_36 : cX4_init.data.toList.drop 862 = dktX4_init_36 := dk_seg dksX4_init_35 24 rfl rfl
theorem dksX4_init_37 : cX4_init.data.toList.drop 886 = dktX4_init_37 := dk_seg dksX4_init_36 24 rfl rfl
theorem dksX4_init_38 : cX4_init.data.toList.drop 910 = dktX4_init_38 := dk_seg dksX4_init_37 24 rfl rfl
theorem dksX4_init_39 : cX4_init.data.toList.drop 934 = dktX4_init_39 := dk_seg dksX4_init_38 24 rfl rfl
theorem dksX4_init_40 : cX4_init.data.toList.drop 958 = dktX4_init_40 := dk_seg dksX4_init_39 24 rfl rfl
theorem dksX4_init_41 : cX4_init.data.toList.drop 981 = dktX4_init_41 := dk_seg dksX4_init_40 23 rfl rfl
theorem dksX4_init_42 : cX4_init.data.toList.drop 1005 = dktX4_init_42 := dk_seg dksX4_init_41 24 rfl rfl
theorem dksX4_init_43 : cX4_init.data.toList.drop 1029 = dktX4_init_43 := dk_seg dksX4_init_42 24 rfl rfl
theorem dksX4_init_44 : cX4_init.data.toList.drop 1053 = dktX4_init_44 := dk_seg dksX4_init_43 24 rfl rfl
theorem dX4_init_0 : decode cX4_init 0 = .ok (.aload_n 0, 1) := dk_42 (dk_at dksX4_init_0 0 rfl rfl)
theorem dX4_init_1 : decode cX4_init 1 = .ok (.invokespecial 1, 3) := dk_183 0 1 (dk_at dksX4_init_0 1 rfl rfl)
theorem dX4_init_4 : decode cX4_init 4 = .ok (.aload_n 0, 1) := dk_42 (dk_at dksX4_init_0 4 rfl rfl)
theorem dX4_init_5 : decode cX4_init 5 = .ok (.sipush 800, 3) := dk_17 3 32 (dk_at dksX4_init_0 5 rfl rfl)
theorem dX4_init_8 : decode cX4_init 8 = .ok (.newarray .int, 2) := dk_188_10 (dk_at dksX4_init_0 8 rfl rfl)
theorem dX4_init_10 : decode cX4_init 10 = .ok (.putfield 7, 3) := dk_181 0 7 (dk_at dksX4_init_0 10 rfl rfl)
theorem dX4_init_13 : decode cX4_init 13 = .ok (.aload_n 0, 1) := dk_42 (dk_at dksX4_init_0 13 rfl rfl)
theorem dX4_init_14 : decode cX4_init 14 = .ok (.sipush 132, 3) := dk_17 0 132 (dk_at dksX4_init_0 14 rfl rfl)
theorem dX4_init_17 : decode cX4_init 17 = .ok (.newarray .int, 2) := dk_188_10 (dk_at dksX4_init_0 17 rfl rfl)
theorem dX4_init_19 : decode cX4_init 19 = .ok (.dup, 1) := dk_89 (dk_at dksX4_init_0 19 rfl rfl)
theorem dX4_init_20 : decode cX4_init 20 = .ok (.iconst 0, 1) := dk_3 (dk_at dksX4_init_0 20 rfl rfl)
theorem dX4_init_21 : decode cX4_init 21 = .ok (.bipush 116, 2) := dk_16 116 (dk_at dksX4_init_0 21 rfl rfl)
theorem dX4_init_23 : decode cX4_init 23 = .ok (.iastore, 1) := dk_79 (dk_at dksX4_init_0 23 rfl rfl)
theorem dX4_init_24 : decode cX4_init 24 = .ok (.dup, 1) := dk_89 (dk_at dksX4_init_1 0 rfl rfl)
theorem dX4_init_25 : decode cX4_init 25 = .ok (.iconst 1, 1) := dk_4 (dk_at dksX4_init_1 1 rfl rfl)
theorem dX4_init_26 : decode cX4_init 26 = .ok (.bipush 104, 2) := dk_16 104 (dk_at dksX4_init_1 2 rfl rfl)
theorem dX4_init_28 : decode cX4_init 28 = .ok (.iastore, 1) := dk_79 (dk_at dksX4_init_1 4 rfl rfl)
theorem dX4_init_29 : decode cX4_init 29 = .ok (.dup, 1) := dk_89 (dk_at dksX4_init_1 5 rfl rfl)
theorem dX4_init_30 : decode cX4_init 30 = .ok (.iconst 2, 1) := dk_5 (dk_at dksX4_init_1 6 rfl rfl)
theorem dX4_init_31 : decode cX4_init 31 = .ok (.bipush 105, 2) := dk_16 105 (dk_at dksX4_init_1 7 rfl rfl)
theorem dX4_init_33 : decode cX4_init 33 = .ok (.iastore, 1) := dk_79 (dk_at dksX4_init_1 9 rfl rfl)
theorem dX4_init_34 : decode cX4_init 34 = .ok (.dup, 1) := dk_89 (dk_at dksX4_init_1 10 rfl rfl)
theorem dX4_init_35 : decode cX4_init 35 = .ok (.iconst 3, 1) := dk_6 (dk_at dksX4_init_1 11 rfl rfl)
theorem dX4_init_36 : decode cX4_init 36 = .ok (.bipush 110, 2) := dk_16 110 (dk_at dksX4_init_1 12 rfl rfl)
theorem dX4_init_38 : decode cX4_init 38 = .ok (.iastore, 1) := dk_79 (dk_at dksX4_init_1 14 rfl rfl)
theorem dX4_init_39 : decode cX4_init 39 = .ok (.dup, 1) := dk_89 (dk_at dksX4_init_1 15 rfl rfl)
theorem dX4_init_40 : decode cX4_init 40 = .ok (.iconst 4, 1) := dk_7 (dk_at dksX4_init_1 16 rfl rfl)
theorem dX4_init_41 : decode cX4_init 41 = .ok (.bipush 103, 2) := dk_16 103 (dk_at dksX4_init_1 17 rfl rfl)
theorem dX4_init_43 : decode cX4_init 43 = .ok (.iastore, 1) := dk_79 (dk_at dksX4_init_1 19 rfl rfl)
theorem dX4_init_44 : decode cX4_init 44 = .ok (.dup, 1) := dk_89 (dk_at dksX4_init_1 20 rfl rfl)
theorem dX4_init_45 : decode cX4_init 45 = .ok (.iconst 5, 1) := dk_8 (dk_at dksX4_init_1 21 rfl rfl)
theorem dX4_init_46 : decode cX4_init 46 = .ok (.bipush 32, 2) := dk_16 32 (dk_at dksX4_init_1 22 rfl rfl)
theorem dX4_init_48 : decode cX4_init 48 = .ok (.iastore, 1) := dk_79 (dk_at dksX4_init_2 0 rfl rfl)
theorem dX4_init_49 : decode cX4_init 49 = .ok (.dup, 1) := dk_89 (dk_at dksX4_init_2 1 rfl rfl)
theorem dX4_init_50 : decode cX4_init 50 = .ok (.bipush 6, 2) := dk_16 6 (dk_at dksX4_init_2 2 rfl rfl)
theorem dX4_init_52 : decode cX4_init 52 = .ok (.bipush 116, 2) := dk_16 116 (dk_at dksX4_init_2 4 rfl rfl)
theorem dX4_init_54 : decode cX4_init 54 = .ok (.iastore, 1) := dk_79 (dk_at dksX4_init_2 6 rfl rfl)
theorem dX4_init_55 : decode cX4_init 55 = .ok (.dup, 1) := dk_89 (dk_at dksX4_init_2 7 rfl rfl)
theorem dX4_init_56 : decode cX4_init 56 = .ok (.bipush 7, 2) := dk_16 7 (dk_at dksX4_init_2 8 rfl rfl)
theorem dX4_init_58 : decode cX4_init 58 = .ok (.bipush 101, 2) := dk_16 101 (dk_at dksX4_init_2 10 rfl rfl)
theorem dX4_init_60 : decode cX4_init 60 = .ok (.iastore, 1) := dk_79 (dk_at dksX4_init_2 12 rfl rfl)
theorem dX4_init_61 : decode cX4_init 61 = .ok (.dup, 1) := dk_89 (dk_at dksX4_init_2 13 rfl rfl)
theorem dX4_init_62 : decode cX4_init 62 = .ok (.bipush 8, 2) := dk_16 8 (dk_at dksX4_init_2 14 rfl rfl)
theorem dX4_init_64 : decode cX4_init 64 = .ok (.bipush 108, 2) := dk_16 108 (dk_at dksX4_init_2 16 rfl rfl)
theorem dX4_init_66 : decode cX4_init 66 = .ok (.iastore, 1) := dk_79 (dk_at dksX4_init_2 18 rfl rfl)
theorem dX4_init_67 : decode cX4_init 67 = .ok (.dup, 1) := dk_89 (dk_at dksX4_init_2 19 rfl rfl)
theorem dX4_init_68 : decode cX4_init 68 = .ok (.bipush 9, 2) := dk_16 9 (dk_at dksX4_init_2 20 rfl rfl)
theorem dX4_init_70 : decode cX4_init 70 = .ok (.bipush 108, 2) := dk_16 108 (dk_at dksX4_init_2 22 rfl rfl)
theorem dX4_init_72 : decode cX4_init 72 = .ok (.iastore, 1) := dk_79 (dk_at dksX4_init_3 0 rfl rfl)
theorem dX4_init_73 : decode cX4_init 73 = .ok (.dup, 1) := dk_89 (dk_at dksX4_init_3 1 rfl rfl)
theorem dX4_init_74 : decode cX4_init 74 = .ok (.bipush 10, 2) := dk_16 10 (dk_at dksX4_init_3 2 rfl rfl)
theorem dX4_init_76 : decode cX4_init 76 = .ok (.bipush 101, 2) := dk_16 101 (dk_at dksX4_init_3 4 rfl rfl)
theorem dX4_init_78 : decode cX4_init 78 = .ok (.iastore, 1) := dk_79 (dk_at dksX4_init_3 6 rfl rfl)
theorem dX4_init_79 : decode cX4_init 79 = .ok (.dup, 1) := dk_89 (dk_at dksX4_init_3 7 rfl rfl)
theorem dX4_init_80 : decode cX4_init 80 = .ok (.bipush 11, 2) := dk_16 11 (dk_at dksX4_init_3 8 rfl rfl)
theorem dX4_init_82 : decode cX4_init 82 = .ok (.bipush 114, 2) := dk_16 114 (dk_at dksX4_init_3 10 rfl rfl)
theorem dX4_init_84 : decode cX4_init 84 = .ok (.iastore, 1) := dk_79 (dk_at dksX4_init_3 12 rfl rfl)
theorem dX4_init_85 : decode cX4_init 85 = .ok (.dup, 1) := dk_89 (dk_at dksX4_init_3 13 rfl rfl)
theorem dX4_init_86 : decode cX4_init 86 = .ok (.bipush 12, 2) := dk_16 12 (dk_at dksX4_init_3 14 rfl rfl)
theorem dX4_init_88 : decode cX4_init 88 = .ok (.bipush 32, 2) := dk_16 32 (dk_at dksX4_init_3 16 rfl rfl)
theorem dX4_init_90 : decode cX4_init 90 = .ok (.iastore, 1) := dk_79 (dk_at dksX4_init_3 18 rfl rfl)
theorem dX4_init_91 : decode cX4_init 91 = .ok (.dup, 1) := dk_89 (dk_at dksX4_init_3 19 rfl rfl)
theorem dX4_init_92 : decode cX4_init 92 = .ok (.bipush 13, 2) := dk_16 13 (dk_at dksX4_init_3 20 rfl rfl)
theorem dX4_init_94 : decode cX4_init 94 = .ok (.bipush 97, 2) := dk_16 97 (dk_at dksX4_init_3 22 rfl rfl)
theorem dX4_init_96 : decode cX4_init 96 = .ok (.iastore, 1) := dk_79 (dk_at dksX4_init_4 0 rfl rfl)
theorem dX4_init_97 : decode cX4_init 97 = .ok (.dup, 1) := dk_89 (dk_at dksX4_init_4 1 rfl rfl)
theorem dX4_init_98 : decode cX4_init 98 = .ok (.bipush 14, 2) := dk_16 14 (dk_at dksX4_init_4 2 rfl rfl)
theorem dX4_init_100 : decode cX4_init 100 = .ok (.bipush 115, 2) := dk_16 115 (dk_at dksX4_init_4 4 rfl rfl)
theorem dX4_init_102 : decode cX4_init 102 = .ok (.iastore, 1) := dk_79 (dk_at dksX4_init_4 6 rfl rfl)
theorem dX4_init_103 : decode cX4_init 103 = .ok (.dup, 1) := dk_89 (dk_at dksX4_init_4 7 rfl rfl)
theorem dX4_init_104 : decode cX4_init 104 = .ok (.bipush 15, 2) := dk_16 15 (dk_at dksX4_init_4 8 rfl rfl)
theorem dX4_init_106 : decode cX4_init 106 = .ok (.bipush 107, 2) := dk_16 107 (dk_at dksX4_init_4 10 rfl rfl)
theorem dX4_init_108 : decode cX4_init 108 = .ok (.iastore, 1) := dk_79 (dk_at dksX4_init_4 12 rfl rfl)
theorem dX4_init_109 : decode cX4_init 109 = .ok (.dup, 1) := dk_89 (dk_at dksX4_init_4 13 rfl rfl)
theorem dX4_init_110 : decode cX4_init 110 = .ok (.bipush 16, 2) := dk_16 16 (dk_at dksX4_init_4 14 rfl rfl)
theorem dX4_init_112 : decode cX4_init 112 = .ok (.bipush 32, 2) := dk_16 32 (dk_at dksX4_init_4 16 rfl rfl)
theorem dX4_init_114 : decode cX4_init 114 = .ok (.iastore, 1) := dk_79 (dk_at dksX4_init_4 18 rfl rfl)
theorem dX4_init_115 : decode cX4_init 115 = .ok (.dup, 1) := dk_89 (dk_at dksX4_init_4 19 rfl rfl)
theorem dX4_init_116 : decode cX4_init 116 = .ok (.bipush 17, 2) := dk_16 17 (dk_at dksX4_init_4 20 rfl rfl)
theorem dX4_init_118 : decode cX4_init 118 = .ok (.bipush 115, 2) := dk_16 115 (dk_at dksX4_init_4 22 rfl rfl)
theorem dX4_init_120 : decode cX4_init 120 = .ok (.iastore, 1) := dk_79 (dk_at dksX4_init_5 0 rfl rfl)
theorem dX4_init_121 : decode cX4_init 121 = .ok (.dup, 1) := dk_89 (dk_at dksX4_init_5 1 rfl rfl)
theorem dX4_init_122 : decode cX4_init 122 = .ok (.bipush 18, 2) := dk_16 18 (dk_at dksX4_init_5 2 rfl rfl)
theorem dX4_init_124 : decode cX4_init 124 = .ok (.bipush 97, 2) := dk_16 97 (dk_at dksX4_init_5 4 rfl rfl)
theorem dX4_init_126 : decode cX4_init 126 = .ok (.iastore, 1) := dk_79 (dk_at dksX4_init_5 6 rfl rfl)
theorem dX4_init_127 : decode cX4_init 127 = .ok (.dup, 1) := dk_89 (dk_at dksX4_init_5 7 rfl rfl)
theorem dX4_init_128 : decode cX4_init 128 = .ok (.bipush 19, 2) := dk_16 19 (dk_at dksX4_init_5 8 rfl rfl)
theorem dX4_init_130 : decode cX4_init 130 = .ok (.bipush 121, 2) := dk_16 121 (dk_at dksX4_init_5 10 rfl rfl)
theorem dX4_init_132 : decode cX4_init 132 = .ok (.iastore, 1) := dk_79 (dk_at dksX4_init_5 12 rfl rfl)
theorem dX4_init_133 : decode cX4_init 133 = .ok (.dup, 1) := dk_89 (dk_at dksX4_init_5 13 rfl rfl)
theorem dX4_init_134 : decode cX4_init 134 = .ok (.bipush 20, 2) := dk_16 20 (dk_at dksX4_init_5 14 rfl rfl)
theorem dX4_init_136 : decode cX4_init 136 = .ok (.bipush 32, 2) := dk_16 32 (dk_at dksX4_init_5 16 rfl rfl)
theorem dX4_init_138 : decode cX4_init 138 = .ok (.iastore, 1) := dk_79 (dk_at dksX4_init_5 18 rfl rfl)
theorem dX4_init_139 : decode cX4_init 139 = .ok (.dup, 1) := dk_89 (dk_at dksX4_init_5 19 rfl rfl)
theorem dX4_init_140 : decode cX4_init 140 = .ok (.bipush 21, 2) := dk_16 21 (dk_at dksX4_init_5 20 rfl rfl)
theorem dX4_init_142 : decode cX4_init 142 = .ok (.bipush 112, 2) := dk_16 112 (dk_at dksX4_init_5 22 rfl rfl)
theorem dX4_init_144 : decode cX4_init 144 = .ok (.iastore, 1) := dk_79 (dk_at dksX4_init_6 0 rfl rfl)
theorem dX4_init_145 : decode cX4_init 145 = .ok (.dup, 1) := dk_89 (dk_at dksX4_init_6 1 rfl rfl)
theorem dX4_init_146 : decode cX4_init 146 = .ok (.bipush 22, 2) := dk_16 22 (dk_at dksX4_init_6 2 rfl rfl)
theorem dX4_init_148 : decode cX4_init 148 = .ok (.bipush 97, 2) := dk_16 97 (dk_at dksX4_init_6 4 rfl rfl)
theorem dX4_init_150 : decode cX4_init 150 = .ok (.iastore, 1) := dk_79 (dk_at dksX4_init_6 6 rfl rfl)
theorem dX4_init_151 : decode cX4_init 151 = .ok (.dup, 1) := dk_89 (dk_at dksX4_init_6 7 rfl rfl)
theorem dX4_init_152 : decode cX4_init 152 = .ok (.bipush 23, 2) := dk_16 23 (dk_at dksX4_init_6 8 rfl rfl)
theorem dX4_init_154 : decode cX4_init 154 = .ok (.bipush 103, 2) := dk_16 103 (dk_at dksX4_init_6 10 rfl rfl)
theorem dX4_init_156 : decode cX4_init 156 = .ok (.iastore, 1) := dk_79 (dk_at dksX4_init_6 12 rfl rfl)
theorem dX4_init_157 : decode cX4_init 157 = .ok (.dup, 1) := dk_89 (dk_at dksX4_init_6 13 rfl rfl)
theorem dX4_init_158 : decode cX4_init 158 = .ok (.bipush 24, 2) := dk_16 24 (dk_at dksX4_init_6 14 rfl rfl)
theorem dX4_init_160 : decode cX4_init 160 = .ok (.bipush 101, 2) := dk_16 101 (dk_at dksX4_init_6 16 rfl rfl)
theorem dX4_init_162 : decode cX4_init 162 = .ok (.iastore, 1) := dk_79 (dk_at dksX4_init_6 18 rfl rfl)
theorem dX4_init_163 : decode cX4_init 163 = .ok (.dup, 1) := dk_89 (dk_at dksX4_init_6 19 rfl rfl)
theorem dX4_init_164 : decode cX4_init 164 = .ok (.bipush 25, 2) := dk_16 25 (dk_at dksX4_init_6 20 rfl rfl)
theorem dX4_init_166 : decode cX4_init 166 = .ok (.bipush 32, 2) := dk_16 32 (dk_at dksX4_init_6 22 rfl rfl)
theorem dX4_init_168 : decode cX4_init 168 = .ok (.iastore, 1) := dk_79 (dk_at dksX4_init_7 0 rfl rfl)
theorem dX4_init_169 : decode cX4_init 169 = .ok (.dup, 1) := dk_89 (dk_at dksX4_init_7 1 rfl rfl)
theorem dX4_init_170 : decode cX4_init 170 = .ok (.bipush 26, 2) := dk_16 26 (dk_at dksX4_init_7 2 rfl rfl)
theorem dX4_init_172 : decode cX4_init 172 = .ok (.bipush 108, 2) := dk_16 108 (dk_at dksX4_init_7 4 rfl rfl)
theorem dX4_init_174 : decode cX4_init 174 = .ok (.iastore, 1) := dk_79 (dk_at dksX4_init_7 6 rfl rfl)
theorem dX4_init_175 : decode cX4_init 175 = .ok (.dup, 1) := dk_89 (dk_at dksX4_init_7 7 rfl rfl)
theorem dX4_init_176 : decode cX4_init 176 = .ok (.bipush 27, 2) := dk_16 27 (dk_at dksX4_init_7 8 rfl rfl)
theorem dX4_init_178 : decode cX4_init 178 = .ok (.bipush 97, 2) := dk_16 97 (dk_at dksX4_init_7 10 rfl rfl)
theorem dX4_init_180 : decode cX4_init 180 = .ok (.iastore, 1) := dk_79 (dk_at dksX4_init_7 12 rfl rfl)
theorem dX4_init_181 : decode cX4_init 181 = .ok (.dup, 1) := dk_89 (dk_at dksX4_init_7 13 rfl rfl)
theorem dX4_init_182 : decode cX4_init 182 = .ok (.bipush 28, 2) := dk_16 28 (dk_at dksX4_init_7 14 rfl rfl)
theorem dX4_init_184 : decode cX4_init 184 = .ok (.bipush 119, 2) := dk_16 119 (dk_at dksX4_init_7 16 rfl rfl)
theorem dX4_init_186 : decode cX4_init 186 = .ok (.iastore, 1) := dk_79 (dk_at dksX4_init_7 18 rfl rfl)
theorem dX4_init_187 : decode cX4_init 187 = .ok (.dup, 1) := dk_89 (dk_at dksX4_init_7 19 rfl rfl)
theorem dX4_init_188 : decode cX4_init 188 = .ok (.bipush 29, 2) := dk_16 29 (dk_at dksX4_init_7 20 rfl rfl)
theorem dX4_init_190 : decode cX4_init 190 = .ok (.bipush 32, 2) := dk_16 32 (dk_at dksX4_init_7 22 rfl rfl)
theorem dX4_init_192 : decode cX4_init 192 = .ok (.iastore, 1) := dk_79 (dk_at dksX4_init_8 0 rfl rfl)
theorem dX4_init_193 : decode cX4_init 193 = .ok (.dup, 1) := dk_89 (dk_at dksX4_init_8 1 rfl rfl)
theorem dX4_init_194 : decode cX4_init 194 = .ok (.bipush 30, 2) := dk_16 30 (dk_at dksX4_init_8 2 rfl rfl)
theorem dX4_init_196 : decode cX4_init 196 = .ok (.bipush 98, 2) := dk_16 98 (dk_at dksX4_init_8 4 rfl rfl)
theorem dX4_init_198 : decode cX4_init 198 = .ok (.iastore, 1) := dk_79 (dk_at dksX4_init_8 6 rfl rfl)
theorem dX4_init_199 : decode cX4_init 199 = .ok (.dup, 1) := dk_89 (dk_at dksX4_init_8 7 rfl rfl)
theorem dX4_init_200 : decode cX4_init 200 = .ok (.bipush 31, 2) := dk_16 31 (dk_at dksX4_init_8 8 rfl rfl)
theorem dX4_init_202 : decode cX4_init 202 = .ok (.bipush 97, 2) := dk_16 97 (dk_at dksX4_init_8 10 rfl rfl)
theorem dX4_init_204 : decode cX4_init 204 = .ok (.iastore, 1) := dk_79 (dk_at dksX4_init_8 12 rfl rfl)
theorem dX4_init_205 : decode cX4_init 205 = .ok (.dup, 1) := dk_89 (dk_at dksX4_init_8 13 rfl rfl)
theorem dX4_init_206 : decode cX4_init 206 = .ok (.bipush 32, 2) := dk_16 32 (dk_at dksX4_init_8 14 rfl rfl)
theorem dX4_init_208 : decode cX4_init 208 = .ok (.bipush 114, 2) := dk_16 114 (dk_at dksX4_init_8 16 rfl rfl)
theorem dX4_init_210 : decode cX4_init 210 = .ok (.iastore, 1) := dk_79 (dk_at dksX4_init_8 18 rfl rfl)
theorem dX4_init_211 : decode cX4_init 211 = .ok (.dup, 1) := dk_89 (dk_at dksX4_init_8 19 rfl rfl)
theorem dX4_init_212 : decode cX4_init 212 = .ok (.bipush 33, 2) := dk_16 33 (dk_at dksX4_init_8 20 rfl rfl)
theorem dX4_init_214 : decode cX4_init 214 = .ok (.bipush 32, 2) := dk_16 32 (dk_at dksX4_init_8 22 rfl rfl)
theorem dX4_init_216 : decode cX4_init 216 = .ok (.iastore, 1) := dk_79 (dk_at dksX4_init_9 0 rfl rfl)
theorem dX4_init_217 : decode cX4_init 217 = .ok (.dup, 1) := dk_89 (dk_at dksX4_init_9 1 rfl rfl)
theorem dX4_init_218 : decode cX4_init 218 = .ok (.bipush 34, 2) := dk_16 34 (dk_at dksX4_init_9 2 rfl rfl)
theorem dX4_init_220 : decode cX4_init 220 = .ok (.bipush 106, 2) := dk_16 106 (dk_at dksX4_init_9 4 rfl rfl)
theorem dX4_init_222 : decode cX4_init 222 = .ok (.iastore, 1) := dk_79 (dk_at dksX4_init_9 6 rfl rfl)
theorem dX4_init_223 : decode cX4_init 223 = .ok (.dup, 1) := dk_89 (dk_at dksX4_init_9 7 rfl rfl)
theorem dX4_init_224 : decode cX4_init 224 = .ok (.bipush 35, 2) := dk_16 35 (dk_at dksX4_init_9 8 rfl rfl)
theorem dX4_init_226 : decode cX4_init 226 = .ok (.bipush 117, 2) := dk_16 117 (dk_at dksX4_init_9 10 rfl rfl)
theorem dX4_init_228 : decode cX4_init 228 = .ok (.iastore, 1) := dk_79 (dk_at dksX4_init_9 12 rfl rfl)
theorem dX4_init_229 : decode cX4_init 229 = .ok (.dup, 1) := dk_89 (dk_at dksX4_init_9 13 rfl rfl)
theorem dX4_init_230 : decode cX4_init 230 = .ok (.bipush 36, 2) := dk_16 36 (dk_at dksX4_init_9 14 rfl rfl)
theorem dX4_init_232 : decode cX4_init 232 = .ok (.bipush 114, 2) := dk_16 114 (dk_at dksX4_init_9 16 rfl rfl)
theorem dX4_init_234 : decode cX4_init 234 = .ok (.iastore, 1) := dk_79 (dk_at dksX4_init_9 18 rfl rfl)
theorem dX4_init_235 : decode cX4_init 235 = .ok (.dup, 1) := dk_89 (dk_at dksX4_init_9 19 rfl rfl)
theorem dX4_init_236 : decode cX4_init 236 = .ok (.bipush 37, 2) := dk_16 37 (dk_at dksX4_init_9 20 rfl rfl)
theorem dX4_init_238 : decode cX4_init 238 = .ok (.bipush 121, 2) := dk_16 121 (dk_at dksX4_init_9 22 rfl rfl)
theorem dX4_init_240 : decode cX4_init 240 = .ok (.iastore, 1) := dk_79 (dk_at dksX4_init_10 0 rfl rfl)
theorem dX4_init_241 : decode cX4_init 241 = .ok (.dup, 1) := dk_89 (dk_at dksX4_init_10 1 rfl rfl)
theorem dX4_init_242 : decode cX4_init 242 = .ok (.bipush 38, 2) := dk_16 38 (dk_at dksX4_init_10 2 rfl rfl)
theorem dX4_init_244 : decode cX4_init 244 = .ok (.bipush 32, 2) := dk_16 32 (dk_at dksX4_init_10 4 rfl rfl)
theorem dX4_init_246 : decode cX4_init 246 = .ok (.iastore, 1) := dk_79 (dk_at dksX4_init_10 6 rfl rfl)
theorem dX4_init_247 : decode cX4_init 247 = .ok (.dup, 1) := dk_89 (dk_at dksX4_init_10 7 rfl rfl)
theorem dX4_init_248 : decode cX4_init 248 = .ok (.bipush 39, 2) := dk_16 39 (dk_at dksX4_init_10 8 rfl rfl)
theorem dX4_init_250 : decode cX4_init 250 = .ok (.bipush 105, 2) := dk_16 105 (dk_at dksX4_init_10 10 rfl rfl)
theorem dX4_init_252 : decode cX4_init 252 = .ok (.iastore, 1) := dk_79 (dk_at dksX4_init_10 12 rfl rfl)
theorem dX4_init_253 : decode cX4_init 253 = .ok (.dup, 1) := dk_89 (dk_at dksX4_init_10 13 rfl rfl)
theorem dX4_init_254 : decode cX4_init 254 = .ok (.bipush 40, 2) := dk_16 40 (dk_at dksX4_init_10 14 rfl rfl)
theorem dX4_init_256 : decode cX4_init 256 = .ok (.bipush 115, 2) := dk_16 115 (dk_at dksX4_init_10 16 rfl rfl)
theorem dX4_init_258 : decode cX4_init 258 = .ok (.iastore, 1) := dk_79 (dk_at dksX4_init_10 18 rfl rfl)
theorem dX4_init_259 : decode cX4_init 259 = .ok (.dup, 1) := dk_89 (dk_at dksX4_init_10 19 rfl rfl)
theorem dX4_init_260 : decode cX4_init 260 = .ok (.bipush 41, 2) := dk_16 41 (dk_at dksX4_init_10 20 rfl rfl)
theorem dX4_init_262 : decode cX4_init 262 = .ok (.bipush 32, 2) := dk_16 32 (dk_at dksX4_init_10 22 rfl rfl)
theorem dX4_init_264 : decode cX4_init 264 = .ok (.iastore, 1) := dk_79 (dk_at dksX4_init_11 0 rfl rfl)
theorem dX4_init_265 : decode cX4_init 265 = .ok (.dup, 1) := dk_89 (dk_at dksX4_init_11 1 rfl rfl)
theorem dX4_init_266 : decode cX4_init 266 = .ok (.bipush 42, 2) := dk_16 42 (dk_at dksX4_init_11 2 rfl rfl)
theorem dX4_init_268 : decode cX4_init 268 = .ok (.bipush 112, 2) := dk_16 112 (dk_at dksX4_init_11 4 rfl rfl)
theorem dX4_init_270 : decode cX4_init 270 = .ok (.iastore, 1) := dk_79 (dk_at dksX4_init_11 6 rfl rfl)
theorem dX4_init_271 : decode cX4_init 271 = .ok (.dup, 1) := dk_89 (dk_at dksX4_init_11 7 rfl rfl)
theorem dX4_init_272 : decode cX4_init 272 = .ok (.bipush 43, 2) := dk_16 43 (dk_at dksX4_init_11 8 rfl rfl)
theorem dX4_init_274 : decode cX4_init 274 = .ok (.bipush 97, 2) := dk_16 97 (dk_at dksX4_init_11 10 rfl rfl)
theorem dX4_init_276 : decode cX4_init 276 = .ok (.iastore, 1) := dk_79 (dk_at dksX4_init_11 12 rfl rfl)
theorem dX4_init_277 : decode cX4_init 277 = .ok (.dup, 1) := dk_89 (dk_at dksX4_init_11 13 rfl rfl)
theorem dX4_init_278 : decode cX4_init 278 = .ok (.bipush 44, 2) := dk_16 44 (dk_at dksX4_init_11 14 rfl rfl)
theorem dX4_init_280 : decode cX4_init 280 = .ok (.bipush 112, 2) := dk_16 112 (dk_at dksX4_init_11 16 rfl rfl)
theorem dX4_init_282 : decode cX4_init 282 = .ok (.iastore, 1) := dk_79 (dk_at dksX4_init_11 18 rfl rfl)
theorem dX4_init_283 : decode cX4_init 283 = .ok (.dup, 1) := dk_89 (dk_at dksX4_init_11 19 rfl rfl)
theorem dX4_init_284 : decode cX4_init 284 = .ok (.bipush 45, 2) := dk_16 45 (dk_at dksX4_init_11 20 rfl rfl)
theorem dX4_init_286 : decode cX4_init 286 = .ok (.bipush 101, 2) := dk_16 101 (dk_at dksX4_init_11 22 rfl rfl)
theorem dX4_init_288 : decode cX4_init 288 = .ok (.iastore, 1) := dk_79 (dk_at dksX4_init_12 0 rfl rfl)
theorem dX4_init_289 : decode cX4_init 289 = .ok (.dup, 1) := dk_89 (dk_at dksX4_init_12 1 rfl rfl)
theorem dX4_init_290 : decode cX4_init 290 = .ok (.bipush 46, 2) := dk_16 46 (dk_at dksX4_init_12 2 rfl rfl)
theorem dX4_init_292 : decode cX4_init 292 = .ok (.bipush 114, 2) := dk_16 114 (dk_at dksX4_init_12 4 rfl rfl)
theorem dX4_init_294 : decode cX4_init 294 = .ok (.iastore, 1) := dk_79 (dk_at dksX4_init_12 6 rfl rfl)
theorem dX4_init_295 : decode cX4_init 295 = .ok (.dup, 1) := dk_89 (dk_at dksX4_init_12 7 rfl rfl)
theorem dX4_init_296 : decode cX4_init 296 = .ok (.bipush 47, 2) := dk_16 47 (dk_at dksX4_init_12 8 rfl rfl)
theorem dX4_init_298 : decode cX4_init 298 = .ok (.bipush 32, 2) := dk_16 32 (dk_at dksX4_init_12 10 rfl rfl)
theorem dX4_init_300 : decode cX4_init 300 = .ok (.iastore, 1) := dk_79 (dk_at dksX4_init_12 12 rfl rfl)
theorem dX4_init_301 : decode cX4_init 301 = .ok (.dup, 1) := dk_89 (dk_at dksX4_init_12 13 rfl rfl)
theorem dX4_init_302 : decode cX4_init 302 = .ok (.bipush 48, 2) := dk_16 48 (dk_at dksX4_init_12 14 rfl rfl)
theorem dX4_init_304 : decode cX4_init 304 = .ok (.bipush 112, 2) := dk_16 112 (dk_at dksX4_init_12 16 rfl rfl)
theorem dX4_init_306 : decode cX4_init 306 = .ok (.iastore, 1) := dk_79 (dk_at dksX4_init_12 18 rfl rfl)
theorem dX4_init_307 : decode cX4_init 307 = .ok (.dup, 1) := dk_89 (dk_at dksX4_init_12 19 rfl rfl)
theorem dX4_init_308 : decode cX4_init 308 = .ok (.bipush 49, 2) := dk_16 49 (dk_at dksX4_init_12 20 rfl rfl)
theorem dX4_init_310 : decode cX4_init 310 = .ok (.bipush 111, 2) := dk_16 111 (dk_at dksX4_init_12 22 rfl rfl)
theorem dX4_init_312 : decode cX4_init 312 = .ok (.iastore, 1) := dk_79 (dk_at dksX4_init_13 0 rfl rfl)
theorem dX4_init_313 : decode cX4_init 313 = .ok (.dup, 1) := dk_89 (dk_at dksX4_init_13 1 rfl rfl)
theorem dX4_init_314 : decode cX4_init 314 = .ok (.bipush 50, 2) := dk_16 50 (dk_at dksX4_init_13 2 rfl rfl)
theorem dX4_init_316 : decode cX4_init 316 = .ok (.bipush 108, 2) := dk_16 108 (dk_at dksX4_init_13 4 rfl rfl)
theorem dX4_init_318 : decode cX4_init 318 = .ok (.iastore, 1) := dk_79 (dk_at dksX4_init_13 6 rfl rfl)
theorem dX4_init_319 : decode cX4_init 319 = .ok (.dup, 1) := dk_89 (dk_at dksX4_init_13 7 rfl rfl)
theorem dX4_init_320 : decode cX4_init 320 = .ok (.bipush 51, 2) := dk_16 51 (dk_at dksX4_init_13 8 rfl rfl)
theorem dX4_init_322 : decode cX4_init 322 = .ok (.bipush 105, 2) := dk_16 105 (dk_at dksX4_init_13 10 rfl rfl)
theorem dX4_init_324 : decode cX4_init 324 = .ok (.iastore, 1) := dk_79 (dk_at dksX4_init_13 12 rfl rfl)
theorem dX4_init_325 : decode cX4_init 325 = .ok (.dup, 1) := dk_89 (dk_at dksX4_init_13 13 rfl rfl)
theorem dX4_init_326 : decode cX4_init 326 = .ok (.bipush 52, 2) := dk_16 52 (dk_at dksX4_init_13 14 rfl rfl)
theorem dX4_init_328 : decode cX4_init 328 = .ok (.bipush 99, 2) := dk_16 99 (dk_at dksX4_init_13 16 rfl rfl)
theorem dX4_init_330 : decode cX4_init 330 = .ok (.iastore, 1) := dk_79 (dk_at dksX4_init_13 18 rfl rfl)
theorem dX4_init_331 : decode cX4_init 331 = .ok (.dup, 1) := dk_89 (dk_at dksX4_init_13 19 rfl rfl)
theorem dX4_init_332 : decode cX4_init 332 = .ok (.bipush 53, 2) := dk_16 53 (dk_at dksX4_init_13 20 rfl rfl)
theorem dX4_init_334 : decode cX4_init 334 = .ok (.bipush 101, 2) := dk_16 101 (dk_at dksX4_init_13 22 rfl rfl)
theorem dX4_init_336 : decode cX4_init 336 = .ok (.iastore, 1) := dk_79 (dk_at dksX4_init_14 0 rfl rfl)
theorem dX4_init_337 : decode cX4_init 337 = .ok (.dup, 1) := dk_89 (dk_at dksX4_init_14 1 rfl rfl)
theorem dX4_init_338 : decode cX4_init 338 = .ok (.bipush 54, 2) := dk_16 54 (dk_at dksX4_init_14 2 rfl rfl)
theorem dX4_init_340 : decode cX4_init 340 = .ok (.bipush 32, 2) := dk_16 32 (dk_at dksX4_init_14 4 rfl rfl)
theorem dX4_init_342 : decode cX4_init 342 = .ok (.iastore, 1) := dk_79 (dk_at dksX4_init_14 6 rfl rfl)
theorem dX4_init_343 : decode cX4_init 343 = .ok (.dup, 1) := dk_89 (dk_at dksX4_init_14 7 rfl rfl)
theorem dX4_init_344 : decode cX4_init 344 = .ok (.bipush 55, 2) := dk_16 55 (dk_at dksX4_init_14 8 rfl rfl)
theorem dX4_init_346 : decode cX4_init 346 = .ok (.bipush 98, 2) := dk_16 98 (dk_at dksX4_init_14 10 rfl rfl)
theorem dX4_init_348 : decode cX4_init 348 = .ok (.iastore, 1) := dk_79 (dk_at dksX4_init_14 12 rfl rfl)
theorem dX4_init_349 : decode cX4_init 349 = .ok (.dup, 1) := dk_89 (dk_at dksX4_init_14 13 rfl rfl)
theorem dX4_init_350 : decode cX4_init 350 = .ok (.bipush 56, 2) := dk_16 56 (dk_at dksX4_init_14 14 rfl rfl)
theorem dX4_init_352 : decode cX4_init 352 = .ok (.bipush 101, 2) := dk_16 101 (dk_at dksX4_init_14 16 rfl rfl)
theorem dX4_init_354 : decode cX4_init 354 = .ok (.iastore, 1) := dk_79 (dk_at dksX4_init_14 18 rfl rfl)
theorem dX4_init_355 : decode cX4_init 355 = .ok (.dup, 1) := dk_89 (dk_at dksX4_init_14 19 rfl rfl)
theorem dX4_init_356 : decode cX4_init 356 = .ok (.bipush 57, 2) := dk_16 57 (dk_at dksX4_init_14 20 rfl rfl)
theorem dX4_init_358 : decode cX4_init 358 = .ok (.bipush 103, 2) := dk_16 103 (dk_at dksX4_init_14 22 rfl rfl)
theorem dX4_init_360 : decode cX4_init 360 = .ok (.iastore, 1) := dk_79 (dk_at dksX4_init_15 0 rfl rfl)
theorem dX4_init_361 : decode cX4_init 361 = .ok (.dup, 1) := dk_89 (dk_at dksX4_init_15 1 rfl rfl)
theorem dX4_init_362 : decode cX4_init 362 = .ok (.bipush 58, 2) := dk_16 58 (dk_at dksX4_init_15 2 rfl rfl)
theorem dX4_init_364 : decode cX4_init 364 = .ok (.bipush 105, 2) := dk_16 105 (dk_at dksX4_init_15 4 rfl rfl)
theorem dX4_init_366 : decode cX4_init 366 = .ok (.iastore, 1) := dk_79 (dk_at dksX4_init_15 6 rfl rfl)
theorem dX4_init_367 : decode cX4_init 367 = .ok (.dup, 1) := dk_89 (dk_at dksX4_init_15 7 rfl rfl)
theorem dX4_init_368 : decode cX4_init 368 = .ok (.bipush 59, 2) := dk_16 59 (dk_at dksX4_init_15 8 rfl rfl)
theorem dX4_init_370 : decode cX4_init 370 = .ok (.bipush 110, 2) := dk_16 110 (dk_at dksX4_init_15 10 rfl rfl)
theorem dX4_init_372 : decode cX4_init 372 = .ok (.iastore, 1) := dk_79 (dk_at dksX4_init_15 12 rfl rfl)
theorem dX4_init_373 : decode cX4_init 373 = .ok (.dup, 1) := dk_89 (dk_at dksX4_init_15 13 rfl rfl)
theorem dX4_init_374 : decode cX4_init 374 = .ok (.bipush 60, 2) := dk_16 60 (dk_at dksX4_init_15 14 rfl rfl)
theorem dX4_init_376 : decode cX4_init 376 = .ok (.bipush 115, 2) := dk_16 115 (dk_at dksX4_init_15 16 rfl rfl)
theorem dX4_init_378 : decode cX4_init 378 = .ok (.iastore, 1) := dk_79 (dk_at dksX4_init_15 18 rfl rfl)
theorem dX4_init_379 : decode cX4_init 379 = .ok (.dup, 1) := dk_89 (dk_at dksX4_init_15 19 rfl rfl)
theorem dX4_init_380 : decode cX4_init 380 = .ok (.bipush 61, 2) := dk_16 61 (dk_at dksX4_init_15 20 rfl rfl)
theorem dX4_init_382 : decode cX4_init 382 = .ok (.bipush 32, 2) := dk_16 32 (dk_at dksX4_init_15 22 rfl rfl)
theorem dX4_init_384 : decode cX4_init 384 = .ok (.iastore, 1) := dk_79 (dk_at dksX4_init_16 0 rfl rfl)
theorem dX4_init_385 : decode cX4_init 385 = .ok (.dup, 1) := dk_89 (dk_at dksX4_init_16 1 rfl rfl)
theorem dX4_init_386 : decode cX4_init 386 = .ok (.bipush 62, 2) := dk_16 62 (dk_at dksX4_init_16 2 rfl rfl)
theorem dX4_init_388 : decode cX4_init 388 = .ok (.bipush 101, 2) := dk_16 101 (dk_at dksX4_init_16 4 rfl rfl)
theorem dX4_init_390 : decode cX4_init 390 = .ok (.iastore, 1) := dk_79 (dk_at dksX4_init_16 6 rfl rfl)
theorem dX4_init_391 : decode cX4_init 391 = .ok (.dup, 1) := dk_89 (dk_at dksX4_init_16 7 rfl rfl)
theorem dX4_init_392 : decode cX4_init 392 = .ok (.bipush 63, 2) := dk_16 63 (dk_at dksX4_init_16 8 rfl rfl)
theorem dX4_init_394 : decode cX4_init 394 = .ok (.bipush 110, 2) := dk_16 110 (dk_at dksX4_init_16 10 rfl rfl)
theorem dX4_init_396 : decode cX4_init 396 = .ok (.iastore, 1) := dk_79 (dk_at dksX4_init_16 12 rfl rfl)
theorem dX4_init_397 : decode cX4_init 397 = .ok (.dup, 1) := dk_89 (dk_at dksX4_init_16 13 rfl rfl)
theorem dX4_init_398 : decode cX4_init 398 = .ok (.bipush 64, 2) := dk_16 64 (dk_at dksX4_init_16 14 rfl rfl)
theorem dX4_init_400 : decode cX4_init 400 = .ok (.bipush 100, 2) := dk_16 100 (dk_at dksX4_init_16 16 rfl rfl)
theorem dX4_init_402 : decode cX4_init 402 = .ok (.iastore, 1) := dk_79 (dk_at dksX4_init_16 18 rfl rfl)
theorem dX4_init_403 : decode cX4_init 403 = .ok (.dup, 1) := dk_89 (dk_at dksX4_init_16 19 rfl rfl)
theorem dX4_init_404 : decode cX4_init 404 = .ok (.bipush 65, 2) := dk_16 65 (dk_at dksX4_init_16 20 rfl rfl)
theorem dX4_init_406 : decode cX4_init 406 = .ok (.bipush 115, 2) := dk_16 115 (dk_at dksX4_init_16 22 rfl rfl)
theorem dX4_init_408 : decode cX4_init 408 = .ok (.iastore, 1) := dk_79 (dk_at dksX4_init_17 0 rfl rfl)
theorem dX4_init_409 : decode cX4_init 409 = .ok (.dup, 1) := dk_89 (dk_at dksX4_init_17 1 rfl rfl)
theorem dX4_init_410 : decode cX4_init 410 = .ok (.bipush 66, 2) := dk_16 66 (dk_at dksX4_init_17 2 rfl rfl)
theorem dX4_init_412 : decode cX4_init 412 = .ok (.bipush 32, 2) := dk_16 32 (dk_at dksX4_init_17 4 rfl rfl)
theorem dX4_init_414 : decode cX4_init 414 = .ok (.iastore, 1) := dk_79 (dk_at dksX4_init_17 6 rfl rfl)
theorem dX4_init_415 : decode cX4_init 415 = .ok (.dup, 1) := dk_89 (dk_at dksX4_init_17 7 rfl rfl)
theorem dX4_init_416 : decode cX4_init 416 = .ok (.bipush 67, 2) := dk_16 67 (dk_at dksX4_init_17 8 rfl rfl)
theorem dX4_init_418 : decode cX4_init 418 = .ok (.bipush 116, 2) := dk_16 116 (dk_at dksX4_init_17 10 rfl rfl)
theorem dX4_init_420 : decode cX4_init 420 = .ok (.iastore, 1) := dk_79 (dk_at dksX4_init_17 12 rfl rfl)
theorem dX4_init_421 : decode cX4_init 421 = .ok (.dup, 1) := dk_89 (dk_at dksX4_init_17 13 rfl rfl)
theorem dX4_init_422 : decode cX4_init 422 = .ok (.bipush 68, 2) := dk_16 68 (dk_at dksX4_init_17 14 rfl rfl)
theorem dX4_init_424 : decode cX4_init 424 = .ok (.bipush 97, 2) := dk_16 97 (dk_at dksX4_init_17 16 rfl rfl)
theorem dX4_init_426 : decode cX4_init 426 = .ok (.iastore, 1) := dk_79 (dk_at dksX4_init_17 18 rfl rfl)
theorem dX4_init_427 : decode cX4_init 427 = .ok (.dup, 1) := dk_89 (dk_at dksX4_init_17 19 rfl rfl)
theorem dX4_init_428 : decode cX4_init 428 = .ok (.bipush 69, 2) := dk_16 69 (dk_at dksX4_init_17 20 rfl rfl)
theorem dX4_init_430 : decode cX4_init 430 = .ok (.bipush 112, 2) := dk_16 112 (dk_at dksX4_init_17 22 rfl rfl)
theorem dX4_init_432 : decode cX4_init 432 = .ok (.iastore, 1) := dk_79 (dk_at dksX4_init_18 0 rfl rfl)
theorem dX4_init_433 : decode cX4_init 433 = .ok (.dup, 1) := dk_89 (dk_at dksX4_init_18 1 rfl rfl)
theorem dX4_init_434 : decode cX4_init 434 = .ok (.bipush 70, 2) := dk_16 70 (dk_at dksX4_init_18 2 rfl rfl)
theorem dX4_init_436 : decode cX4_init 436 = .ok (.bipush 101, 2) := dk_16 101 (dk_at dksX4_init_18 4 rfl rfl)
theorem dX4_init_438 : decode cX4_init 438 = .ok (.iastore, 1) := dk_79 (dk_at dksX4_init_18 6 rfl rfl)
theorem dX4_init_439 : decode cX4_init 439 = .ok (.dup, 1) := dk_89 (dk_at dksX4_init_18 7 rfl rfl)
theorem dX4_init_440 : decode cX4_init 440 = .ok (.bipush 71, 2) := dk_16 71 (dk_at dksX4_init_18 8 rfl rfl)
theorem dX4_init_442 : decode cX4_init 442 = .ok (.bipush 32, 2) := dk_16 32 (dk_at dksX4_init_18 10 rfl rfl)
theorem dX4_init_444 : decode cX4_init 444 = .ok (.iastore, 1) := dk_79 (dk_at dksX4_init_18 12 rfl rfl)
theorem dX4_init_445 : decode cX4_init 445 = .ok (.dup, 1) := dk_89 (dk_at dksX4_init_18 13 rfl rfl)
theorem dX4_init_446 : decode cX4_init 446 = .ok (.bipush 72, 2) := dk_16 72 (dk_at dksX4_init_18 14 rfl rfl)
theorem dX4_init_448 : decode cX4_init 448 = .ok (.bipush 97, 2) := dk_16 97 (dk_at dksX4_init_18 16 rfl rfl)
theorem dX4_init_450 : decode cX4_init 450 = .ok (.iastore, 1) := dk_79 (dk_at dksX4_init_18 18 rfl rfl)
theorem dX4_init_451 : decode cX4_init 451 = .ok (.dup, 1) := dk_89 (dk_at dksX4_init_18 19 rfl rfl)
theorem dX4_init_452 : decode cX4_init 452 = .ok (.bipush 73, 2) := dk_16 73 (dk_at dksX4_init_18 20 rfl rfl)
theorem dX4_init_454 : decode cX4_init 454 = .ok (.bipush 110, 2) := dk_16 110 (dk_at dksX4_init_18 22 rfl rfl)
theorem dX4_init_456 : decode cX4_init 456 = .ok (.iastore, 1) := dk_79 (dk_at dksX4_init_19 0 rfl rfl)
theorem dX4_init_457 : decode cX4_init 457 = .ok (.dup, 1) := dk_89 (dk_at dksX4_init_19 1 rfl rfl)
theorem dX4_init_458 : decode cX4_init 458 = .ok (.bipush 74, 2) := dk_16 74 (dk_at dksX4_init_19 2 rfl rfl)
theorem dX4_init_460 : decode cX4_init 460 = .ok (.bipush 100, 2) := dk_16 100 (dk_at dksX4_init_19 4 rfl rfl)
theorem dX4_init_462 : decode cX4_init 462 = .ok (.iastore, 1) := dk_79 (dk_at dksX4_init_19 6 rfl rfl)
theorem dX4_init_463 : decode cX4_init 463 = .ok (.dup, 1) := dk_89 (dk_at dksX4_init_19 7 rfl rfl)
theorem dX4_init_464 : decode cX4_init 464 = .ok (.bipush 75, 2) := dk_16 75 (dk_at dksX4_init_19 8 rfl rfl)
theorem dX4_init_466 : decode cX4_init 466 = .ok (.bipush 32, 2) := dk_16 32 (dk_at dksX4_init_19 10 rfl rfl)
theorem dX4_init_468 : decode cX4_init 468 = .ok (.iastore, 1) := dk_79 (dk_at dksX4_init_19 12 rfl rfl)
theorem dX4_init_469 : decode cX4_init 469 = .ok (.dup, 1) := dk_89 (dk_at dksX4_init_19 13 rfl rfl)
theorem dX4_init_470 : decode cX4_init 470 = .ok (.bipush 76, 2) := dk_16 76 (dk_at dksX4_init_19 14 rfl rfl)
theorem dX4_init_472 : decode cX4_init 472 = .ok (.bipush 111, 2) := dk_16 111 (dk_at dksX4_init_19 16 rfl rfl)
theorem dX4_init_474 : decode cX4_init 474 = .ok (.iastore, 1) := dk_79 (dk_at dksX4_init_19 18 rfl rfl)
theorem dX4_init_475 : decode cX4_init 475 = .ok (.dup, 1) := dk_89 (dk_at dksX4_init_19 19 rfl rfl)
theorem dX4_init_476 : decode cX4_init 476 = .ok (.bipush 77, 2) := dk_16 77 (dk_at dksX4_init_19 20 rfl rfl)
theorem dX4_init_478 : decode cX4_init 478 = .ok (.bipush 114, 2) := dk_16 114 (dk_at dksX4_init_19 22 rfl rfl)
theorem dX4_init_480 : decode cX4_init 480 = .ok (.iastore, 1) := dk_79 (dk_at dksX4_init_20 0 rfl rfl)
theorem dX4_init_481 : decode cX4_init 481 = .ok (.dup, 1) := dk_89 (dk_at dksX4_init_20 1 rfl rfl)
theorem dX4_init_482 : decode cX4_init 482 = .ok (.bipush 78, 2) := dk_16 78 (dk_at dksX4_init_20 2 rfl rfl)
theorem dX4_init_484 : decode cX4_init 484 = .ok (.bipush 32, 2) := dk_16 32 (dk_at dksX4_init_20 4 rfl rfl)
theorem dX4_init_486 : decode cX4_init 486 = .ok (.iastore, 1) := dk_79 (dk_at dksX4_init_20 6 rfl rfl)
theorem dX4_init_487 : decode cX4_init 487 = .ok (.dup, 1) := dk_89 (dk_at dksX4_init_20 7 rfl rfl)
theorem dX4_init_488 : decode cX4_init 488 = .ok (.bipush 79, 2) := dk_16 79 (dk_at dksX4_init_20 8 rfl rfl)
theorem dX4_init_490 : decode cX4_init 490 = .ok (.bipush 110, 2) := dk_16 110 (dk_at dksX4_init_20 10 rfl rfl)
theorem dX4_init_492 : decode cX4_init 492 = .ok (.iastore, 1) := dk_79 (dk_at dksX4_init_20 12 rfl rfl)
theorem dX4_init_493 : decode cX4_init 493 = .ok (.dup, 1) := dk_89 (dk_at dksX4_init_20 13 rfl rfl)
theorem dX4_init_494 : decode cX4_init 494 = .ok (.bipush 80, 2) := dk_16 80 (dk_at dksX4_init_20 14 rfl rfl)
theorem dX4_init_496 : decode cX4_init 496 = .ok (.bipush 111, 2) := dk_16 111 (dk_at dksX4_init_20 16 rfl rfl)
theorem dX4_init_498 : decode cX4_init 498 = .ok (.iastore, 1) := dk_79 (dk_at dksX4_init_20 18 rfl rfl)
theorem dX4_init_499 : decode cX4_init 499 = .ok (.dup, 1) := dk_89 (dk_at dksX4_init_20 19 rfl rfl)
theorem dX4_init_500 : decode cX4_init 500 = .ok (.bipush 81, 2) := dk_16 81 (dk_at dksX4_init_20 20 rfl rfl)
theorem dX4_init_502 : decode cX4_init 502 = .ok (.bipush 116, 2) := dk_16 116 (dk_at dksX4_init_20 22 rfl rfl)
theorem dX4_init_504 : decode cX4_init 504 = .ok (.iastore, 1) := dk_79 (dk_at dksX4_init_21 0 rfl rfl)
theorem dX4_init_505 : decode cX4_init 505 = .ok (.dup, 1) := dk_89 (dk_at dksX4_init_21 1 rfl rfl)
theorem dX4_init_506 : decode cX4_init 506 = .ok (.bipush 82, 2) := dk_16 82 (dk_at dksX4_init_21 2 rfl rfl)
theorem dX4_init_508 : decode cX4_init 508 = .ok (.bipush 32, 2) := dk_16 32 (dk_at dksX4_init_21 4 rfl rfl)
theorem dX4_init_510 : decode cX4_init 510 = .ok (.iastore, 1) := dk_79 (dk_at dksX4_init_21 6 rfl rfl)
theorem dX4_init_511 : decode cX4_init 511 = .ok (.dup, 1) := dk_89 (dk_at dksX4_init_21 7 rfl rfl)
theorem dX4_init_512 : decode cX4_init 512 = .ok (.bipush 83, 2) := dk_16 83 (dk_at dksX4_init_21 8 rfl rfl)
theorem dX4_init_514 : decode cX4_init 514 = .ok (.bipush 97, 2) := dk_16 97 (dk_at dksX4_init_21 10 rfl rfl)
theorem dX4_init_516 : decode cX4_init 516 = .ok (.iastore, 1) := dk_79 (dk_at dksX4_init_21 12 rfl rfl)
theorem dX4_init_517 : decode cX4_init 517 = .ok (.dup, 1) := dk_89 (dk_at dksX4_init_21 13 rfl rfl)
theorem dX4_init_518 : decode cX4_init 518 = .ok (.bipush 84, 2) := dk_16 84 (dk_at dksX4_init_21 14 rfl rfl)
theorem dX4_init_520 : decode cX4_init 520 = .ok (.bipush 103, 2) := dk_16 103 (dk_at dksX4_init_21 16 rfl rfl)
theorem dX4_init_522 : decode cX4_init 522 = .ok (.iastore, 1) := dk_79 (dk_at dksX4_init_21 18 rfl rfl)
theorem dX4_init_523 : decode cX4_init 523 = .ok (.dup, 1) := dk_89 (dk_at dksX4_init_21 19 rfl rfl)
theorem dX4_init_524 : decode cX4_init 524 = .ok (.bipush 85, 2) := dk_16 85 (dk_at dksX4_init_21 20 rfl rfl)
theorem dX4_init_526 : decode cX4_init 526 = .ok (.bipush 101, 2) := dk_16 101 (dk_at dksX4_init_21 22 rfl rfl)
theorem dX4_init_528 : decode cX4_init 528 = .ok (.iastore, 1) := dk_79 (dk_at dksX4_init_22 0 rfl rfl)
theorem dX4_init_529 : decode cX4_init 529 = .ok (.dup, 1) := dk_89 (dk_at dksX4_init_22 1 rfl rfl)
theorem dX4_init_530 : decode cX4_init 530 = .ok (.bipush 86, 2) := dk_16 86 (dk_at dksX4_init_22 2 rfl rfl)
theorem dX4_init_532 : decode cX4_init 532 = .ok (.bipush 32, 2) := dk_16 32 (dk_at dksX4_init_22 4 rfl rfl)
theorem dX4_init_534 : decode cX4_init 534 = .ok (.iastore, 1) := dk_79 (dk_at dksX4_init_22 6 rfl rfl)
theorem dX4_init_535 : decode cX4_init 535 = .ok (.dup, 1) := dk_89 (dk_at dksX4_init_22 7 rfl rfl)
theorem dX4_init_536 : decode cX4_init 536 = .ok (.bipush 87, 2) := dk_16 87 (dk_at dksX4_init_22 8 rfl rfl)
theorem dX4_init_538 : decode cX4_init 538 = .ok (.bipush 104, 2) := dk_16 104 (dk_at dksX4_init_22 10 rfl rfl)
theorem dX4_init_540 : decode cX4_init 540 = .ok (.iastore, 1) := dk_79 (dk_at dksX4_init_22 12 rfl rfl)
theorem dX4_init_541 : decode cX4_init 541 = .ok (.dup, 1) := dk_89 (dk_at dksX4_init_22 13 rfl rfl)
theorem dX4_init_542 : decode cX4_init 542 = .ok (.bipush 88, 2) := dk_16 88 (dk_at dksX4_init_22 14 rfl rfl)
theorem dX4_init_544 : decode cX4_init 544 = .ok (.bipush 111, 2) := dk_16 111 (dk_at dksX4_init_22 16 rfl rfl)
theorem dX4_init_546 : decode cX4_init 546 = .ok (.iastore, 1) := dk_79 (dk_at dksX4_init_22 18 rfl rfl)
theorem dX4_init_547 : decode cX4_init 547 = .ok (.dup, 1) := dk_89 (dk_at dksX4_init_22 19 rfl rfl)
theorem dX4_init_548 : decode cX4_init 548 = .ok (.bipush 89, 2) := dk_16 89 (dk_at dksX4_init_22 20 rfl rfl)
theorem dX4_init_550 : decode cX4_init 550 = .ok (.bipush 117, 2) := dk_16 117 (dk_at dksX4_init_22 22 rfl rfl)
theorem dX4_init_552 : decode cX4_init 552 = .ok (.iastore, 1) := dk_79 (dk_at dksX4_init_23 0 rfl rfl)
theorem dX4_init_553 : decode cX4_init 553 = .ok (.dup, 1) := dk_89 (dk_at dksX4_init_23 1 rfl rfl)
theorem dX4_init_554 : decode cX4_init 554 = .ok (.bipush 90, 2) := dk_16 90 (dk_at dksX4_init_23 2 rfl rfl)
theorem dX4_init_556 : decode cX4_init 556 = .ok (.bipush 114, 2) := dk_16 114 (dk_at dksX4_init_23 4 rfl rfl)
theorem dX4_init_558 : decode cX4_init 558 = .ok (.iastore, 1) := dk_79 (dk_at dksX4_init_23 6 rfl rfl)
theorem dX4_init_559 : decode cX4_init 559 = .ok (.dup, 1) := dk_89 (dk_at dksX4_init_23 7 rfl rfl)
theorem dX4_init_560 : decode cX4_init 560 = .ok (.bipush 91, 2) := dk_16 91 (dk_at dksX4_init_23 8 rfl rfl)
theorem dX4_init_562 : decode cX4_init 562 = .ok (.bipush 115, 2) := dk_16 115 (dk_at dksX4_init_23 10 rfl rfl)
theorem dX4_init_564 : decode cX4_init 564 = .ok (.iastore, 1) := dk_79 (dk_at dksX4_init_23 12 rfl rfl)
theorem dX4_init_565 : decode cX4_init 565 = .ok (.dup, 1) := dk_89 (dk_at dksX4_init_23 13 rfl rfl)
theorem dX4_init_566 : decode cX4_init 566 = .ok (.bipush 92, 2) := dk_16 92 (dk_at dksX4_init_23 14 rfl rfl)
theorem dX4_init_568 : decode cX4_init 568 = .ok (.bipush 32, 2) := dk_16 32 (dk_at dksX4_init_23 16 rfl rfl)
theorem dX4_init_570 : decode cX4_init 570 = .ok (.iastore, 1) := dk_79 (dk_at dksX4_init_23 18 rfl rfl)
theorem dX4_init_571 : decode cX4_init 571 = .ok (.dup, 1) := dk_89 (dk_at dksX4_init_23 19 rfl rfl)
theorem dX4_init_572 : decode cX4_init 572 = .ok (.bipush 93, 2) := dk_16 93 (dk_at dksX4_init_23 20 rfl rfl)
theorem dX4_init_574 : decode cX4_init 574 = .ok (.bipush 111, 2) := dk_16 111 (dk_at dksX4_init_23 22 rfl rfl)
theorem dX4_init_576 : decode cX4_init 576 = .ok (.iastore, 1) := dk_79 (dk_at dksX4_init_24 0 rfl rfl)
theorem dX4_init_577 : decode cX4_init 577 = .ok (.dup, 1) := dk_89 (dk_at dksX4_init_24 1 rfl rfl)
theorem dX4_init_578 : decode cX4_init 578 = .ok (.bipush 94, 2) := dk_16 94 (dk_at dksX4_init_24 2 rfl rfl)
theorem dX4_init_580 : decode cX4_init 580 = .ok (.bipush 102, 2) := dk_16 102 (dk_at dksX4_init_24 4 rfl rfl)
theorem dX4_init_582 : decode cX4_init 582 = .ok (.iastore, 1) := dk_79 (dk_at dksX4_init_24 6 rfl rfl)
theorem dX4_init_583 : decode cX4_init 583 = .ok (.dup, 1) := dk_89 (dk_at dksX4_init_24 7 rfl rfl)
theorem dX4_init_584 : decode cX4_init 584 = .ok (.bipush 95, 2) := dk_16 95 (dk_at dksX4_init_24 8 rfl rfl)
theorem dX4_init_586 : decode cX4_init 586 = .ok (.bipush 102, 2) := dk_16 102 (dk_at dksX4_init_24 10 rfl rfl)
theorem dX4_init_588 : decode cX4_init 588 = .ok (.iastore, 1) := dk_79 (dk_at dksX4_init_24 12 rfl rfl)
theorem dX4_init_589 : decode cX4_init 589 = .ok (.dup, 1) := dk_89 (dk_at dksX4_init_24 13 rfl rfl)
theorem dX4_init_590 : decode cX4_init 590 = .ok (.bipush 96, 2) := dk_16 96 (dk_at dksX4_init_24 14 rfl rfl)
theorem dX4_init_592 : decode cX4_init 592 = .ok (.bipush 32, 2) := dk_16 32 (dk_at dksX4_init_24 16 rfl rfl)
theorem dX4_init_594 : decode cX4_init 594 = .ok (.iastore, 1) := dk_79 (dk_at dksX4_init_24 18 rfl rfl)
theorem dX4_init_595 : decode cX4_init 595 = .ok (.dup, 1) := dk_89 (dk_at dksX4_init_24 19 rfl rfl)
theorem dX4_init_596 : decode cX4_init 596 = .ok (.bipush 97, 2) := dk_16 97 (dk_at dksX4_init_24 20 rfl rfl)
theorem dX4_init_598 : decode cX4_init 598 = .ok (.bipush 97, 2) := dk_16 97 (dk_at dksX4_init_24 22 rfl rfl)
theorem dX4_init_600 : decode cX4_init 600 = .ok (.iastore, 1) := dk_79 (dk_at dksX4_init_25 0 rfl rfl)
theorem dX4_init_601 : decode cX4_init 601 = .ok (.dup, 1) := dk_89 (dk_at dksX4_init_25 1 rfl rfl)
theorem dX4_init_602 : decode cX4_init 602 = .ok (.bipush 98, 2) := dk_16 98 (dk_at dksX4_init_25 2 rfl rfl)
theorem dX4_init_604 : decode cX4_init 604 = .ok (.bipush 115, 2) := dk_16 115 (dk_at dksX4_init_25 4 rfl rfl)
theorem dX4_init_606 : decode cX4_init 606 = .ok (.iastore, 1) := dk_79 (dk_at dksX4_init_25 6 rfl rfl)
theorem dX4_init_607 : decode cX4_init 607 = .ok (.dup, 1) := dk_89 (dk_at dksX4_init_25 7 rfl rfl)
theorem dX4_init_608 : decode cX4_init 608 = .ok (.bipush 99, 2) := dk_16 99 (dk_at dksX4_init_25 8 rfl rfl)
theorem dX4_init_610 : decode cX4_init 610 = .ok (.bipush 107, 2) := dk_16 107 (dk_at dksX4_init_25 10 rfl rfl)
theorem dX4_init_612 : decode cX4_init 612 = .ok (.iastore, 1) := dk_79 (dk_at dksX4_init_25 12 rfl rfl)
theorem dX4_init_613 : decode cX4_init 613 = .ok (.dup, 1) := dk_89 (dk_at dksX4_init_25 13 rfl rfl)
theorem dX4_init_614 : decode cX4_init 614 = .ok (.bipush 100, 2) := dk_16 100 (dk_at dksX4_init_25 14 rfl rfl)
theorem dX4_init_616 : decode cX4_init 616 = .ok (.bipush 115, 2) := dk_16 115 (dk_at dksX4_init_25 16 rfl rfl)
theorem dX4_init_618 : decode cX4_init 618 = .ok (.iastore, 1) := dk_79 (dk_at dksX4_init_25 18 rfl rfl)
theorem dX4_init_619 : decode cX4_init 619 = .ok (.dup, 1) := dk_89 (dk_at dksX4_init_25 19 rfl rfl)
theorem dX4_init_620 : decode cX4_init 620 = .ok (.bipush 101, 2) := dk_16 101 (dk_at dksX4_init_25 20 rfl rfl)
theorem dX4_init_622 : decode cX4_init 622 = .ok (.bipush 32, 2) := dk_16 32 (dk_at dksX4_init_25 22 rfl rfl)
theorem dX4_init_624 : decode cX4_init 624 = .ok (.iastore, 1) := dk_79 (dk_at dksX4_init_26 0 rfl rfl)
theorem dX4_init_625 : decode cX4_init 625 = .ok (.dup, 1) := dk_89 (dk_at dksX4_init_26 1 rfl rfl)
theorem dX4_init_626 : decode cX4_init 626 = .ok (.bipush 102, 2) := dk_16 102 (dk_at dksX4_init_26 2 rfl rfl)
theorem dX4_init_628 : decode cX4_init 628 = .ok (.bipush 108, 2) := dk_16 108 (dk_at dksX4_init_26 4 rfl rfl)
theorem dX4_init_630 : decode cX4_init 630 = .ok (.iastore, 1) := dk_79 (dk_at dksX4_init_26 6 rfl rfl)
theorem dX4_init_631 : decode cX4_init 631 = .ok (.dup, 1) := dk_89 (dk_at dksX4_init_26 7 rfl rfl)
theorem dX4_init_632 : decode cX4_init 632 = .ok (.bipush 103, 2) := dk_16 103 (dk_at dksX4_init_26 8 rfl rfl)
theorem dX4_init_634 : decode cX4_init 634 = .ok (.bipush 101, 2) := dk_16 101 (dk_at dksX4_init_26 10 rfl rfl)
theorem dX4_init_636 : decode cX4_init 636 = .ok (.iastore, 1) := dk_79 (dk_at dksX4_init_26 12 rfl rfl)
theorem dX4_init_637 : decode cX4_init 637 = .ok (.dup, 1) := dk_89 (dk_at dksX4_init_26 13 rfl rfl)
theorem dX4_init_638 : decode cX4_init 638 = .ok (.bipush 104, 2) := dk_16 104 (dk_at dksX4_init_26 14 rfl rfl)
theorem dX4_init_640 : decode cX4_init 640 = .ok (.bipush 100, 2) := dk_16 100 (dk_at dksX4_init_26 16 rfl rfl)
theorem dX4_init_642 : decode cX4_init 642 = .ok (.iastore, 1) := dk_79 (dk_at dksX4_init_26 18 rfl rfl)
theorem dX4_init_643 : decode cX4_init 643 = .ok (.dup, 1) := dk_89 (dk_at dksX4_init_26 19 rfl rfl)
theorem dX4_init_644 : decode cX4_init 644 = .ok (.bipush 105, 2) := dk_16 105 (dk_at dksX4_init_26 20 rfl rfl)
theorem dX4_init_646 : decode cX4_init 646 = .ok (.bipush 32, 2) := dk_16 32 (dk_at dksX4_init_26 22 rfl rfl)
theorem dX4_init_648 : decode cX4_init 648 = .ok (.iastore, 1) := dk_79 (dk_at dksX4_init_27 0 rfl rfl)
theorem dX4_init_649 : decode cX4_init 649 = .ok (.dup, 1) := dk_89 (dk_at dksX4_init_27 1 rfl rfl)
theorem dX4_init_650 : decode cX4_init 650 = .ok (.bipush 106, 2) := dk_16 106 (dk_at dksX4_init_27 2 rfl rfl)
theorem dX4_init_652 : decode cX4_init 652 = .ok (.bipush 114, 2) := dk_16 114 (dk_at dksX4_init_27 4 rfl rfl)
theorem dX4_init_654 : decode cX4_init 654 = .ok (.iastore, 1) := dk_79 (dk_at dksX4_init_27 6 rfl rfl)
theorem dX4_init_655 : decode cX4_init 655 = .ok (.dup, 1) := dk_89 (dk_at dksX4_init_27 7 rfl rfl)
theorem dX4_init_656 : decode cX4_init 656 = .ok (.bipush 107, 2) := dk_16 107 (dk_at dksX4_init_27 8 rfl rfl)
theorem dX4_init_658 : decode cX4_init 658 = .ok (.bipush 105, 2) := dk_16 105 (dk_at dksX4_init_27 10 rfl rfl)
theorem dX4_init_660 : decode cX4_init 660 = .ok (.iastore, 1) := dk_79 (dk_at dksX4_init_27 12 rfl rfl)
theorem dX4_init_661 : decode cX4_init 661 = .ok (.dup, 1) := dk_89 (dk_at dksX4_init_27 13 rfl rfl)
theorem dX4_init_662 : decode cX4_init 662 = .ok (.bipush 108, 2) := dk_16 108 (dk_at dksX4_init_27 14 rfl rfl)
theorem dX4_init_664 : decode cX4_init 664 = .ok (.bipush 103, 2) := dk_16 103 (dk_at dksX4_init_27 16 rfl rfl)
theorem dX4_init_666 : decode cX4_init 666 = .ok (.iastore, 1) := dk_79 (dk_at dksX4_init_27 18 rfl rfl)
theorem dX4_init_667 : decode cX4_init 667 = .ok (.dup, 1) := dk_89 (dk_at dksX4_init_27 19 rfl rfl)
theorem dX4_init_668 : decode cX4_init 668 = .ok (.bipush 109, 2) := dk_16 109 (dk_at dksX4_init_27 20 rfl rfl)
theorem dX4_init_670 : decode cX4_init 670 = .ok (.bipush 104, 2) := dk_16 104 (dk_at dksX4_init_27 22 rfl rfl)
theorem dX4_init_672 : decode cX4_init 672 = .ok (.iastore, 1) := dk_79 (dk_at dksX4_init_28 0 rfl rfl)
theorem dX4_init_673 : decode cX4_init 673 = .ok (.dup, 1) := dk_89 (dk_at dksX4_init_28 1 rfl rfl)
theorem dX4_init_674 : decode cX4_init 674 = .ok (.bipush 110, 2) := dk_16 110 (dk_at dksX4_init_28 2 rfl rfl)
theorem dX4_init_676 : decode cX4_init 676 = .ok (.bipush 116, 2) := dk_16 116 (dk_at dksX4_init_28 4 rfl rfl)
theorem dX4_init_678 : decode cX4_init 678 = .ok (.iastore, 1) := dk_79 (dk_at dksX4_init_28 6 rfl rfl)
theorem dX4_init_679 : decode cX4_init 679 = .ok (.dup, 1) := dk_89 (dk_at dksX4_init_28 7 rfl rfl)
theorem dX4_init_680 : decode cX4_init 680 = .ok (.bipush 111, 2) := dk_16 111 (dk_at dksX4_init_28 8 rfl rfl)
theorem dX4_init_682 : decode cX4_init 682 = .ok (.bipush 32, 2) := dk_16 32 (dk_at dksX4_init_28 10 rfl rfl)
theorem dX4_init_684 : decode cX4_init 684 = .ok (.iastore, 1) := dk_79 (dk_at dksX4_init_28 12 rfl rfl)
theorem dX4_init_685 : decode cX4_init 685 = .ok (.dup, 1) := dk_89 (dk_at dksX4_init_28 13 rfl rfl)
theorem dX4_init_686 : decode cX4_init 686 = .ok (.bipush 112, 2) := dk_16 112 (dk_at dksX4_init_28 14 rfl rfl)
theorem dX4_init_688 : decode cX4_init 688 = .ok (.bipush 119, 2) := dk_16 119 (dk_at dksX4_init_28 16 rfl rfl)
theorem dX4_init_690 : decode cX4_init 690 = .ok (.iastore, 1) := dk_79 (dk_at dksX4_init_28 18 rfl rfl)
theorem dX4_init_691 : decode cX4_init 691 = .ok (.dup, 1) := dk_89 (dk_at dksX4_init_28 19 rfl rfl)
theorem dX4_init_692 : decode cX4_init 692 = .ok (.bipush 113, 2) := dk_16 113 (dk_at dksX4_init_28 20 rfl rfl)
theorem dX4_init_694 : decode cX4_init 694 = .ok (.bipush 114, 2) := dk_16 114 (dk_at dksX4_init_28 22 rfl rfl)
theorem dX4_init_696 : decode cX4_init 696 = .ok (.iastore, 1) := dk_79 (dk_at dksX4_init_29 0 rfl rfl)
theorem dX4_init_697 : decode cX4_init 697 = .ok (.dup, 1) := dk_89 (dk_at dksX4_init_29 1 rfl rfl)
theorem dX4_init_698 : decode cX4_init 698 = .ok (.bipush 114, 2) := dk_16 114 (dk_at dksX4_init_29 2 rfl rfl)
theorem dX4_init_700 : decode cX4_init 700 = .ok (.bipush 111, 2) := dk_16 111 (dk_at dksX4_init_29 4 rfl rfl)
theorem dX4_init_702 : decode cX4_init 702 = .ok (.iastore, 1) := dk_79 (dk_at dksX4_init_29 6 rfl rfl)
theorem dX4_init_703 : decode cX4_init 703 = .ok (.dup, 1) := dk_89 (dk_at dksX4_init_29 7 rfl rfl)
theorem dX4_init_704 : decode cX4_init 704 = .ok (.bipush 115, 2) := dk_16 115 (dk_at dksX4_init_29 8 rfl rfl)
theorem dX4_init_706 : decode cX4_init 706 = .ok (.bipush 110, 2) := dk_16 110 (dk_at dksX4_init_29 10 rfl rfl)
theorem dX4_init_708 : decode cX4_init 708 = .ok (.iastore, 1) := dk_79 (dk_at dksX4_init_29 12 rfl rfl)
theorem dX4_init_709 : decode cX4_init 709 = .ok (.dup, 1) := dk_89 (dk_at dksX4_init_29 13 rfl rfl)
theorem dX4_init_710 : decode cX4_init 710 = .ok (.bipush 116, 2) := dk_16 116 (dk_at dksX4_init_29 14 rfl rfl)
theorem dX4_init_712 : decode cX4_init 712 = .ok (.bipush 103, 2) := dk_16 103 (dk_at dksX4_init_29 16 rfl rfl)
theorem dX4_init_714 : decode cX4_init 714 = .ok (.iastore, 1) := dk_79 (dk_at dksX4_init_29 18 rfl rfl)
theorem dX4_init_715 : decode cX4_init 715 = .ok (.dup, 1) := dk_89 (dk_at dksX4_init_29 19 rfl rfl)
theorem dX4_init_716 : decode cX4_init 716 = .ok (.bipush 117, 2) := dk_16 117 (dk_at dksX4_init_29 20 rfl rfl)
theorem dX4_init_718 : decode cX4_init 718 = .ok (.bipush 32, 2) := dk_16 32 (dk_at dksX4_init_29 22 rfl rfl)
theorem dX4_init_720 : decode cX4_init 720 = .ok (.iastore, 1) := dk_79 (dk_at dksX4_init_30 0 rfl rfl)
theorem dX4_init_721 : decode cX4_init 721 = .ok (.dup, 1) := dk_89 (dk_at dksX4_init_30 1 rfl rfl)
theorem dX4_init_722 : decode cX4_init 722 = .ok (.bipush 118, 2) := dk_16 118 (dk_at dksX4_init_30 2 rfl rfl)
theorem dX4_init_724 : decode cX4_init 724 = .ok (.bipush 110, 2) := dk_16 110 (dk_at dksX4_init_30 4 rfl rfl)
theorem dX4_init_726 : decode cX4_init 726 = .ok (.iastore, 1) := dk_79 (dk_at dksX4_init_30 6 rfl rfl)
theorem dX4_init_727 : decode cX4_init 727 = .ok (.dup, 1) := dk_89 (dk_at dksX4_init_30 7 rfl rfl)
theorem dX4_init_728 : decode cX4_init 728 = .ok (.bipush 119, 2) := dk_16 119 (dk_at dksX4_init_30 8 rfl rfl)
theorem dX4_init_730 : decode cX4_init 730 = .ok (.bipush 101, 2) := dk_16 101 (dk_at dksX4_init_30 10 rfl rfl)
theorem dX4_init_732 : decode cX4_init 732 = .ok (.iastore, 1) := dk_79 (dk_at dksX4_init_30 12 rfl rfl)
theorem dX4_init_733 : decode cX4_init 733 = .ok (.dup, 1) := dk_89 (dk_at dksX4_init_30 13 rfl rfl)
theorem dX4_init_734 : decode cX4_init 734 = .ok (.bipush 120, 2) := dk_16 120 (dk_at dksX4_init_30 14 rfl rfl)
theorem dX4_init_736 : decode cX4_init 736 = .ok (.bipush 119, 2) := dk_16 119 (dk_at dksX4_init_30 16 rfl rfl)
theorem dX4_init_738 : decode cX4_init 738 = .ok (.iastore, 1) := dk_79 (dk_at dksX4_init_30 18 rfl rfl)
theorem dX4_init_739 : decode cX4_init 739 = .ok (.dup, 1) := dk_89 (dk_at dksX4_init_30 19 rfl rfl)
theorem dX4_init_740 : decode cX4_init 740 = .ok (.bipush 121, 2) := dk_16 121 (dk_at dksX4_init_30 20 rfl rfl)
theorem dX4_init_742 : decode cX4_init 742 = .ok (.bipush 32, 2) := dk_16 32 (dk_at dksX4_init_30 22 rfl rfl)
theorem dX4_init_744 : decode cX4_init 744 = .ok (.iastore, 1) := dk_79 (dk_at dksX4_init_31 0 rfl rfl)
theorem dX4_init_745 : decode cX4_init 745 = .ok (.dup, 1) := dk_89 (dk_at dksX4_init_31 1 rfl rfl)
theorem dX4_init_746 : decode cX4_init 746 = .ok (.bipush 122, 2) := dk_16 122 (dk_at dksX4_init_31 2 rfl rfl)
theorem dX4_init_748 : decode cX4_init 748 = .ok (.bipush 112, 2) := dk_16 112 (dk_at dksX4_init_31 4 rfl rfl)
theorem dX4_init_750 : decode cX4_init 750 = .ok (.iastore, 1) := dk_79 (dk_at dksX4_init_31 6 rfl rfl)
theorem dX4_init_751 : decode cX4_init 751 = .ok (.dup, 1) := dk_89 (dk_at dksX4_init_31 7 rfl rfl)
theorem dX4_init_752 : decode cX4_init 752 = .ok (.bipush 123, 2) := dk_16 123 (dk_at dksX4_init_31 8 rfl rfl)
theorem dX4_init_754 : decode cX4_init 754 = .ok (.bipush 117, 2) := dk_16 117 (dk_at dksX4_init_31 10 rfl rfl)
theorem dX4_init_756 : decode cX4_init 756 = .ok (.iastore, 1) := dk_79 (dk_at dksX4_init_31 12 rfl rfl)
theorem dX4_init_757 : decode cX4_init 757 = .ok (.dup, 1) := dk_89 (dk_at dksX4_init_31 13 rfl rfl)
theorem dX4_init_758 : decode cX4_init 758 = .ok (.bipush 124, 2) := dk_16 124 (dk_at dksX4_init_31 14 rfl rfl)
theorem dX4_init_760 : decode cX4_init 760 = .ok (.bipush 116, 2) := dk_16 116 (dk_at dksX4_init_31 16 rfl rfl)
theorem dX4_init_762 : decode cX4_init 762 = .ok (.iastore, 1) := dk_79 (dk_at dksX4_init_31 18 rfl rfl)
theorem dX4_init_763 : decode cX4_init 763 = .ok (.dup, 1) := dk_89 (dk_at dksX4_init_31 19 rfl rfl)
theorem dX4_init_764 : decode cX4_init 764 = .ok (.bipush 125, 2) := dk_16 125 (dk_at dksX4_init_31 20 rfl rfl)
theorem dX4_init_766 : decode cX4_init 766 = .ok (.bipush 32, 2) := dk_16 32 (dk_at dksX4_init_31 22 rfl rfl)
theorem dX4_init_768 : decode cX4_init 768 = .ok (.iastore, 1) := dk_79 (dk_at dksX4_init_32 0 rfl rfl)
theorem dX4_init_769 : decode cX4_init 769 = .ok (.dup, 1) := dk_89 (dk_at dksX4_init_32 1 rfl rfl)
theorem dX4_init_770 : decode cX4_init 770 = .ok (.bipush 126, 2) := dk_16 126 (dk_at dksX4_init_32 2 rfl rfl)
theorem dX4_init_772 : decode cX4_init 772 = .ok (.bipush 108, 2) := dk_16 108 (dk_at dksX4_init_32 4 rfl rfl)
theorem dX4_init_774 : decode cX4_init 774 = .ok (.iastore, 1) := dk_79 (dk_at dksX4_init_32 6 rfl rfl)
theorem dX4_init_775 : decode cX4_init 775 = .ok (.dup, 1) := dk_89 (dk_at dksX4_init_32 7 rfl rfl)
theorem dX4_init_776 : decode cX4_init 776 = .ok (.bipush 127, 2) := dk_16 127 (dk_at dksX4_init_32 8 rfl rfl)
theorem dX4_init_778 : decode cX4_init 778 = .ok (.bipush 105, 2) := dk_16 105 (dk_at dksX4_init_32 10 rfl rfl)
theorem dX4_init_780 : decode cX4_init 780 = .ok (.iastore, 1) := dk_79 (dk_at dksX4_init_32 12 rfl rfl)
theorem dX4_init_781 : decode cX4_init 781 = .ok (.dup, 1) := dk_89 (dk_at dksX4_init_32 13 rfl rfl)
theorem dX4_init_782 : decode cX4_init 782 = .ok (.sipush 128, 3) := dk_17 0 128 (dk_at dksX4_init_32 14 rfl rfl)
theorem dX4_init_785 : decode cX4_init 785 = .ok (.bipush 110, 2) := dk_16 110 (dk_at dksX4_init_32 17 rfl rfl)
theorem dX4_init_787 : decode cX4_init 787 = .ok (.iastore, 1) := dk_79 (dk_at dksX4_init_32 19 rfl rfl)
theorem dX4_init_788 : decode cX4_init 788 = .ok (.dup, 1) := dk_89 (dk_at dksX4_init_32 20 rfl rfl)
theorem dX4_init_789 : decode cX4_init 789 = .ok (.sipush 129, 3) := dk_17 0 129 (dk_at dksX4_init_32 21 rfl rfl)
theorem dX4_init_792 : decode cX4_init 792 = .ok (.bipush 101, 2) := dk_16 101 (dk_at dksX4_init_33 0 rfl rfl)
theorem dX4_init_794 : decode cX4_init 794 = .ok (.iastore, 1) := dk_79 (dk_at dksX4_init_33 2 rfl rfl)
theorem dX4_init_795 : decode cX4_init 795 = .ok (.dup, 1) := dk_89 (dk_at dksX4_init_33 3 rfl rfl)
theorem dX4_init_796 : decode cX4_init 796 = .ok (.sipush 130, 3) := dk_17 0 130 (dk_at dksX4_init_33 4 rfl rfl)
theorem dX4_init_799 : decode cX4_init 799 = .ok (.bipush 115, 2) := dk_16 115 (dk_at dksX4_init_33 7 rfl rfl)
theorem dX4_init_801 : decode cX4_init 801 = .ok (.iastore, 1) := dk_79 (dk_at dksX4_init_33 9 rfl rfl)
theorem dX4_init_802 : decode cX4_init 802 = .ok (.dup, 1) := dk_89 (dk_at dksX4_init_33 10 rfl rfl)
theorem dX4_init_803 : decode cX4_init 803 = .ok (.sipush 131, 3) := dk_17 0 131 (dk_at dksX4_init_33 11 rfl rfl)
theorem dX4_init_806 : decode cX4_init 806 = .ok (.bipush 32, 2) := dk_16 32 (dk_at dksX4_init_33 14 rfl rfl)
theorem dX4_init_808 : decode cX4_init 808 = .ok (.iastore, 1) := dk_79 (dk_at dksX4_init_33 16 rfl rfl)
theorem dX4_init_809 : decode cX4_init 809 = .ok (.putfield 13, 3) := dk_181 0 13 (dk_at dksX4_init_33 17 rfl rfl)
theorem dX4_init_812 : decode cX4_init 812 = .ok (.aload_n 0, 1) := dk_42 (dk_at dksX4_init_33 20 rfl rfl)
theorem dX4_init_813 : decode cX4_init 813 = .ok (.iconst (-1), 1) := dk_2 (dk_at dksX4_init_33 21 rfl rfl)
theorem dX4_init_814 : decode cX4_init 814 = .ok (.putfield 16, 3) := dk_181 0 16 (dk_at dksX4_init_34 0 rfl rfl)
theorem dX4_init_817 : decode cX4_init 817 = .ok (.aload_n 0, 1) := dk_42 (dk_at dksX4_init_34 3 rfl rfl)
theorem dX4_init_818 : decode cX4_init 818 = .ok (.bipush 16, 2) := dk_16 16 (dk_at dksX4_init_34 4 rfl rfl)
theorem dX4_init_820 : decode cX4_init 820 = .ok (.newarray .int, 2) := dk_188_10 (dk_at dksX4_init_34 6 rfl rfl)
theorem dX4_init_822 : decode cX4_init 822 = .ok (.putfield 20, 3) := dk_181 0 20 (dk_at dksX4_init_34 8 rfl rfl)
theorem dX4_init_825 : decode cX4_init 825 = .ok (.aload_n 0, 1) := dk_42 (dk_at dksX4_init_34 11 rfl rfl)
theorem dX4_init_826 : decode cX4_init 826 = .ok (.bipush 16, 2) := dk_16 16 (dk_at dksX4_init_34 12 rfl rfl)
theorem dX4_init_828 : decode cX4_init 828 = .ok (.newarray .int, 2) := dk_188_10 (dk_at dksX4_init_34 14 rfl rfl)
theorem dX4_init_830 : decode cX4_init 830 = .ok (.putfield 23, 3) := dk_181 0 23 (dk_at dksX4_init_34 16 rfl rfl)
theorem dX4_init_833 : decode cX4_init 833 = .ok (.aload_n 0, 1) := dk_42 (dk_at dksX4_init_34 19 rfl rfl)
theorem dX4_init_834 : decode cX4_init 834 = .ok (.bipush 16, 2) := dk_16 16 (dk_at dksX4_init_34 20 rfl rfl)
theorem dX4_init_836 : decode cX4_init 836 = .ok (.newarray .int, 2) := dk_188_10 (dk_at dksX4_init_34 22 rfl rfl)
theorem dX4_init_838 : decode cX4_init 838 = .ok (.putfield 26, 3) := dk_181 0 26 (dk_at dksX4_init_35 0 rfl rfl)
theorem dX4_init_841 : decode cX4_init 841 = .ok (.aload_n 0, 1) := dk_42 (dk_at dksX4_init_35 3 rfl rfl)
theorem dX4_init_842 : decode cX4_init 842 = .ok (.bipush 16, 2) := dk_16 16 (dk_at dksX4_init_35 4 rfl rfl)
theorem dX4_init_844 : decode cX4_init 844 = .ok (.newarray .int, 2) := dk_188_10 (dk_at dksX4_init_35 6 rfl rfl)
theorem dX4_init_846 : decode cX4_init 846 = .ok (.putfield 29, 3) := dk_181 0 29 (dk_at dksX4_init_35 8 rfl rfl)
theorem dX4_init_849 : decode cX4_init 849 = .ok (.aload_n 0, 1) := dk_42 (dk_at dksX4_init_35 11 rfl rfl)
theorem dX4_init_850 : decode cX4_init 850 = .ok (.bipush 16, 2) := dk_16 16 (dk_at dksX4_init_35 12 rfl rfl)
theorem dX4_init_852 : decode cX4_init 852 = .ok (.newarray .int, 2) := dk_188_10 (dk_at dksX4_init_35 14 rfl rfl)
theorem dX4_init_854 : decode cX4_init 854 = .ok (.putfield 32, 3) := dk_181 0 32 (dk_at dksX4_init_35 16 rfl rfl)
theorem dX4_init_857 : decode cX4_init 857 = .ok (.aload_n 0, 1) := dk_42 (dk_at dksX4_init_35 19 rfl rfl)
theorem dX4_init_858 : decode cX4_init 858 = .ok (.bipush 10, 2) := dk_16 10 (dk_at dksX4_init_35 20 rfl rfl)
theorem dX4_init_860 : decode cX4_init 860 = .ok (.newarray .int, 2) := dk_188_10 (dk_at dksX4_init_35 22 rfl rfl)
theorem dX4_init_862 : decode cX4_init 862 = .ok (.putfield 35, 3) := dk_181 0 35 (dk_at dksX4_init_36 0 rfl rfl)
theorem dX4_init_865 : decode cX4_init 865 = .ok (.aload_n 0, 1) := dk_42 (dk_at dksX4_init_36 3 rfl rfl)
theorem dX4_init_866 : decode cX4_init 866 = .ok (.bipush 10, 2) := dk_16 10 (dk_at dksX4_init_36 4 rfl rfl)
theorem dX4_init_868 : decode cX4_init 868 = .ok (.newarray .int, 2) := dk_188_10 (dk_at dksX4_init_36 6 rfl rfl)
theorem dX4_init_870 : decode cX4_init 870 = .ok (.putfield 38, 3) := dk_181 0 38 (dk_at dksX4_init_36 8 rfl rfl)
theorem dX4_init_873 : decode cX4_init 873 = .ok (.aload_n 0, 1) := dk_42 (dk_at dksX4_init_36 11 rfl rfl)
theorem dX4_init_874 : decode cX4_init 874 = .ok (.bipush 10, 2) := dk_16 10 (dk_at dksX4_init_36 12 rfl rfl)
theorem dX4_init_876 : decode cX4_init 876 = .ok (.newarray .int, 2) := dk_188_10 (dk_at dksX4_init_36 14 rfl rfl)
theorem dX4_init_878 : decode cX4_init 878 = .ok (.putfield 41, 3) := dk_181 0 41 (dk_at dksX4_init_36 16 rfl rfl)
theorem dX4_init_881 : decode cX4_init 881 = .ok (.aload_n 0, 1) := dk_42 (dk_at dksX4_init_36 19 rfl rfl)
theorem dX4_init_882 : decode cX4_init 882 = .ok (.bipush 10, 2) := dk_16 10 (dk_at dksX4_init_36 20 rfl rfl)
theorem dX4_init_884 : decode cX4_init 884 = .ok (.newarray .int, 2) := dk_188_10 (dk_at dksX4_init_36 22 rfl rfl)
theorem dX4_init_886 : decode cX4_init 886 = .ok (.putfield 44, 3) := dk_181 0 44 (dk_at dksX4_init_37 0 rfl rfl)
theorem dX4_init_889 : decode cX4_init 889 = .ok (.aload_n 0, 1) := dk_42 (dk_at dksX4_init_37 3 rfl rfl)
theorem dX4_init_890 : decode cX4_init 890 = .ok (.bipush 10, 2) := dk_16 10 (dk_at dksX4_init_37 4 rfl rfl)
theorem dX4_init_892 : decode cX4_init 892 = .ok (.newarray .int, 2) := dk_188_10 (dk_at dksX4_init_37 6 rfl rfl)
theorem dX4_init_894 : decode cX4_init 894 = .ok (.putfield 47, 3) := dk_181 0 47 (dk_at dksX4_init_37 8 rfl rfl)
theorem dX4_init_897 : decode cX4_init 897 = .ok (.aload_n 0, 1) := dk_42 (dk_at dksX4_init_37 11 rfl rfl)
theorem dX4_init_898 : decode cX4_init 898 = .ok (.bipush 120, 2) := dk_16 120 (dk_at dksX4_init_37 12 rfl rfl)
theorem dX4_init_900 : decode cX4_init 900 = .ok (.newarray .boolean, 2) := dk_188_4 (dk_at dksX4_init_37 14 rfl rfl)
theorem dX4_init_902 : decode cX4_init 902 = .ok (.putfield 50, 3) := dk_181 0 50 (dk_at dksX4_init_37 16 rfl rfl)
theorem dX4_init_905 : decode cX4_init 905 = .ok (.aload_n 0, 1) := dk_42 (dk_at dksX4_init_37 19 rfl rfl)
theorem dX4_init_906 : decode cX4_init 906 = .ok (.bipush 120, 2) := dk_16 120 (dk_at dksX4_init_37 20 rfl rfl)
theorem dX4_init_908 : decode cX4_init 908 = .ok (.newarray .int, 2) := dk_188_10 (dk_at dksX4_init_37 22 rfl rfl)
theorem dX4_init_910 : decode cX4_init 910 = .ok (.putfield 54, 3) := dk_181 0 54 (dk_at dksX4_init_38 0 rfl rfl)
theorem dX4_init_913 : decode cX4_init 913 = .ok (.aload_n 0, 1) := dk_42 (dk_at dksX4_init_38 3 rfl rfl)
theorem dX4_init_914 : decode cX4_init 914 = .ok (.bipush 120, 2) := dk_16 120 (dk_at dksX4_init_38 4 rfl rfl)
theorem dX4_init_916 : decode cX4_init 916 = .ok (.newarray .int, 2) := dk_188_10 (dk_at dksX4_init_38 6 rfl rfl)
theorem dX4_init_918 : decode cX4_init 918 = .ok (.putfield 57, 3) := dk_181 0 57 (dk_at dksX4_init_38 8 rfl rfl)
theorem dX4_init_921 : decode cX4_init 921 = .ok (.aload_n 0, 1) := dk_42 (dk_at dksX4_init_38 11 rfl rfl)
theorem dX4_init_922 : decode cX4_init 922 = .ok (.bipush 120, 2) := dk_16 120 (dk_at dksX4_init_38 12 rfl rfl)
theorem dX4_init_924 : decode cX4_init 924 = .ok (.newarray .int, 2) := dk_188_10 (dk_at dksX4_init_38 14 rfl rfl)
theorem dX4_init_926 : decode cX4_init 926 = .ok (.putfield 60, 3) := dk_181 0 60 (dk_at dksX4_init_38 16 rfl rfl)
theorem dX4_init_929 : decode cX4_init 929 = .ok (.aload_n 0, 1) := dk_42 (dk_at dksX4_init_38 19 rfl rfl)
theorem dX4_init_930 : decode cX4_init 930 = .ok (.bipush 120, 2) := dk_16 120 (dk_at dksX4_init_38 20 rfl rfl)
theorem dX4_init_932 : decode cX4_init 932 = .ok (.newarray .int, 2) := dk_188_10 (dk_at dksX4_init_38 22 rfl rfl)
theorem dX4_init_934 : decode cX4_init 934 = .ok (.putfield 63, 3) := dk_181 0 63 (dk_at dksX4_init_39 0 rfl rfl)
theorem dX4_init_937 : decode cX4_init 937 = .ok (.aload_n 0, 1) := dk_42 (dk_at dksX4_init_39 3 rfl rfl)
theorem dX4_init_938 : decode cX4_init 938 = .ok (.bipush 40, 2) := dk_16 40 (dk_at dksX4_init_39 4 rfl rfl)
theorem dX4_init_940 : decode cX4_init 940 = .ok (.newarray .int, 2) := dk_188_10 (dk_at dksX4_init_39 6 rfl rfl)
theorem dX4_init_942 : decode cX4_init 942 = .ok (.putfield 66, 3) := dk_181 0 66 (dk_at dksX4_init_39 8 rfl rfl)
theorem dX4_init_945 : decode cX4_init 945 = .ok (.aload_n 0, 1) := dk_42 (dk_at dksX4_init_39 11 rfl rfl)
theorem dX4_init_946 : decode cX4_init 946 = .ok (.bipush 40, 2) := dk_16 40 (dk_at dksX4_init_39 12 rfl rfl)
theorem dX4_init_948 : decode cX4_init 948 = .ok (.newarray .int, 2) := dk_188_10 (dk_at dksX4_init_39 14 rfl rfl)
theorem dX4_init_950 : decode cX4_init 950 = .ok (.putfield 69, 3) := dk_181 0 69 (dk_at dksX4_init_39 16 rfl rfl)
theorem dX4_init_953 : decode cX4_init 953 = .ok (.aload_n 0, 1) := dk_42 (dk_at dksX4_init_39 19 rfl rfl)
theorem dX4_init_954 : decode cX4_init 954 = .ok (.bipush 40, 2) := dk_16 40 (dk_at dksX4_init_39 20 rfl rfl)
theorem dX4_init_956 : decode cX4_init 956 = .ok (.newarray .int, 2) := dk_188_10 (dk_at dksX4_init_39 22 rfl rfl)
theorem dX4_init_958 : decode cX4_init 958 = .ok (.putfield 72, 3) := dk_181 0 72 (dk_at dksX4_init_40 0 rfl rfl)
theorem dX4_init_961 : decode cX4_init 961 = .ok (.aload_n 0, 1) := dk_42 (dk_at dksX4_init_40 3 rfl rfl)
theorem dX4_init_962 : decode cX4_init 962 = .ok (.bipush 6, 2) := dk_16 6 (dk_at dksX4_init_40 4 rfl rfl)
theorem dX4_init_964 : decode cX4_init 964 = .ok (.newarray .int, 2) := dk_188_10 (dk_at dksX4_init_40 6 rfl rfl)
theorem dX4_init_966 : decode cX4_init 966 = .ok (.putfield 75, 3) := dk_181 0 75 (dk_at dksX4_init_40 8 rfl rfl)
theorem dX4_init_969 : decode cX4_init 969 = .ok (.aload_n 0, 1) := dk_42 (dk_at dksX4_init_40 11 rfl rfl)
theorem dX4_init_970 : decode cX4_init 970 = .ok (.bipush 6, 2) := dk_16 6 (dk_at dksX4_init_40 12 rfl rfl)
theorem dX4_init_972 : decode cX4_init 972 = .ok (.newarray .int, 2) := dk_188_10 (dk_at dksX4_init_40 14 rfl rfl)
theorem dX4_init_974 : decode cX4_init 974 = .ok (.putfield 78, 3) := dk_181 0 78 (dk_at dksX4_init_40 16 rfl rfl)
theorem dX4_init_977 : decode cX4_init 977 = .ok (.aload_n 0, 1) := dk_42 (dk_at dksX4_init_40 19 rfl rfl)
theorem dX4_init_978 : decode cX4_init 978 = .ok (.sipush 128, 3) := dk_17 0 128 (dk_at dksX4_init_40 20 rfl rfl)
theorem dX4_init_981 : decode cX4_init 981 = .ok (.newarray .int, 2) := dk_188_10 (dk_at dksX4_init_41 0 rfl rfl)
theorem dX4_init_983 : decode cX4_init 983 = .ok (.putfield 81, 3) := dk_181 0 81 (dk_at dksX4_init_41 2 rfl rfl)
theorem dX4_init_986 : decode cX4_init 986 = .ok (.aload_n 0, 1) := dk_42 (dk_at dksX4_init_41 5 rfl rfl)
theorem dX4_init_987 : decode cX4_init 987 = .ok (.sipush 128, 3) := dk_17 0 128 (dk_at dksX4_init_41 6 rfl rfl)
theorem dX4_init_990 : decode cX4_init 990 = .ok (.newarray .int, 2) := dk_188_10 (dk_at dksX4_init_41 9 rfl rfl)
theorem dX4_init_992 : decode cX4_init 992 = .ok (.putfield 84, 3) := dk_181 0 84 (dk_at dksX4_init_41 11 rfl rfl)
theorem dX4_init_995 : decode cX4_init 995 = .ok (.aload_n 0, 1) := dk_42 (dk_at dksX4_init_41 14 rfl rfl)
theorem dX4_init_996 : decode cX4_init 996 = .ok (.sipush 128, 3) := dk_17 0 128 (dk_at dksX4_init_41 15 rfl rfl)
theorem dX4_init_999 : decode cX4_init 999 = .ok (.newarray .int, 2) := dk_188_10 (dk_at dksX4_init_41 18 rfl rfl)
theorem dX4_init_1001 : decode cX4_init 1001 = .ok (.putfield 87, 3) := dk_181 0 87 (dk_at dksX4_init_41 20 rfl rfl)
theorem dX4_init_1004 : decode cX4_init 1004 = .ok (.aload_n 0, 1) := dk_42 (dk_at dksX4_init_41 23 rfl rfl)
theorem dX4_init_1005 : decode cX4_init 1005 = .ok (.bipush 9, 2) := dk_16 9 (dk_at dksX4_init_42 0 rfl rfl)
theorem dX4_init_1007 : decode cX4_init 1007 = .ok (.putfield 90, 3) := dk_181 0 90 (dk_at dksX4_init_42 2 rfl rfl)
theorem dX4_init_1010 : decode cX4_init 1010 = .ok (.aload_n 0, 1) := dk_42 (dk_at dksX4_init_42 5 rfl rfl)
theorem dX4_init_1011 : decode cX4_init 1011 = .ok (.iconst 1, 1) := dk_4 (dk_at dksX4_init_42 6 rfl rfl)
theorem dX4_init_1012 : decode cX4_init 1012 = .ok (.putfield 93, 3) := dk_181 0 93 (dk_at dksX4_init_42 7 rfl rfl)
theorem dX4_init_1015 : decode cX4_init 1015 = .ok (.aload_n 0, 1) := dk_42 (dk_at dksX4_init_42 10 rfl rfl)
theorem dX4_init_1016 : decode cX4_init 1016 = .ok (.iconst 1, 1) := dk_4 (dk_at dksX4_init_42 11 rfl rfl)
theorem dX4_init_1017 : decode cX4_init 1017 = .ok (.putfield 96, 3) := dk_181 0 96 (dk_at dksX4_init_42 12 rfl rfl)
theorem dX4_init_1020 : decode cX4_init 1020 = .ok (.aload_n 0, 1) := dk_42 (dk_at dksX4_init_42 15 rfl rfl)
theorem dX4_init_1021 : decode cX4_init 1021 = .ok (.bipush 96, 2) := dk_16 96 (dk_at dksX4_init_42 16 rfl rfl)
theorem dX4_init_1023 : decode cX4_init 1023 = .ok (.newarray .int, 2) := dk_188_10 (dk_at dksX4_init_42 18 rfl rfl)
theorem dX4_init_1025 : decode cX4_init 1025 = .ok (.putfield 99, 3) := dk_181 0 99 (dk_at dksX4_init_42 20 rfl rfl)
theorem dX4_init_1028 : decode cX4_init 1028 = .ok (.aload_n 0, 1) := dk_42 (dk_at dksX4_init_42 23 rfl rfl)
theorem dX4_init_1029 : decode cX4_init 1029 = .ok (.bipush 96, 2) := dk_16 96 (dk_at dksX4_init_43 0 rfl rfl)
theorem dX4_init_1031 : decode cX4_init 1031 = .ok (.newarray .int, 2) := dk_188_10 (dk_at dksX4_init_43 2 rfl rfl)
theorem dX4_init_1033 : decode cX4_init 1033 = .ok (.putfield 102, 3) := dk_181 0 102 (dk_at dksX4_init_43 4 rfl rfl)
theorem dX4_init_1036 : decode cX4_init 1036 = .ok (.aload_n 0, 1) := dk_42 (dk_at dksX4_init_43 7 rfl rfl)
theorem dX4_init_1037 : decode cX4_init 1037 = .ok (.bipush 20, 2) := dk_16 20 (dk_at dksX4_init_43 8 rfl rfl)
theorem dX4_init_1039 : decode cX4_init 1039 = .ok (.newarray .int, 2) := dk_188_10 (dk_at dksX4_init_43 10 rfl rfl)
theorem dX4_init_1041 : decode cX4_init 1041 = .ok (.putfield 105, 3) := dk_181 0 105 (dk_at dksX4_init_43 12 rfl rfl)
theorem dX4_init_1044 : decode cX4_init 1044 = .ok (.aload_n 0, 1) := dk_42 (dk_at dksX4_init_43 15 rfl rfl)
theorem dX4_init_1045 : decode cX4_init 1045 = .ok (.bipush 20, 2) := dk_16 20 (dk_at dksX4_init_43 16 rfl rfl)
theorem dX4_init_1047 : decode cX4_init 1047 = .ok (.newarray .int, 2) := dk_188_10 (dk_at dksX4_init_43 18 rfl rfl)
theorem dX4_init_1049 : decode cX4_init 1049 = .ok (.putfield 108, 3) := dk_181 0 108 (dk_at dksX4_init_43 20 rfl rfl)
theorem dX4_init_1052 : decode cX4_init 1052 = .ok (.aload_n 0, 1) := dk_42 (dk_at dksX4_init_43 23 rfl rfl)
theorem dX4_init_1053 : decode cX4_init 1053 = .ok (.bipush 10, 2) := dk_16 10 (dk_at dksX4_init_44 0 rfl rfl)
theorem dX4_init_1055 : decode cX4_init 1055 = .ok (.newarray .long, 2) := dk_188_11 (dk_at dksX4_init_44 2 rfl rfl)
theorem dX4_init_1057 : decode cX4_init 1057 = .ok (.putfield 111, 3) := dk_181 0 111 (dk_at dksX4_init_44 4 rfl rfl)
theorem dX4_init_1060 : decode cX4_init 1060 = .ok (.aload_n 0, 1) := dk_42 (dk_at dksX4_init_44 7 rfl rfl)
theorem dX4_init_1061 : decode cX4_init 1061 = .ok (.bipush 64, 2) := dk_16 64 (dk_at dksX4_init_44 8 rfl rfl)
theorem dX4_init_1063 : decode cX4_init 1063 = .ok (.newarray .long, 2) := dk_188_11 (dk_at dksX4_init_44 10 rfl rfl)
theorem dX4_init_1065 : decode cX4_init 1065 = .ok (.putfield 115, 3) := dk_181 0 115 (dk_at dksX4_init_44 12 rfl rfl)
theorem dX4_init_1068 : decode cX4_init 1068 = .ok (.aload_n 0, 1) := dk_42 (dk_at dksX4_init_44 15 rfl rfl)
theorem dX4_init_1069 : decode cX4_init 1069 = .ok (.invokevirtual 118, 3) := dk_182 0 118 (dk_at dksX4_init_44 16 rfl rfl)
theorem dX4_init_1072 : decode cX4_init 1072 = .ok (.aload_n 0, 1) := dk_42 (dk_at dksX4_init_44 19 rfl rfl)
theorem dX4_init_1073 : decode cX4_init 1073 = .ok (.invokevirtual 121, 3) := dk_182 0 121 (dk_at dksX4_init_44 20 rfl rfl)
theorem dX4_init_1076 : decode cX4_init 1076 = .ok (.return_, 1) := dk_177 (dk_at dksX4_init_44 23 rfl rfl)
abbrev cX4_plain : ByteArray := prog_18_method_18_code
def yX4_plain : MethodName := ⟨RX4, "plain", "()V"⟩
def dkwX4_plain_2 : List UInt8 := [180, 0, 78, 27, 3, 79, 132, 1, 1, 167, 255, 233, 177]
abbrev dktX4_plain_2 : List UInt8 := dkwX4_plain_2 ++ []
def dkwX4_plain_1 : List UInt8 := [181, 0, 186, 42, 3, 181, 0, 189, 6, 60, 27, 16, 6, 162, 0, 23, 42, 180, 0, 75, 27, 3, 79, 42]
abbrev dktX4_plain_1 : List UInt8 := dkwX4_plain_1 ++ dktX4_plain_2
def dkwX4_plain_0 : List UInt8 := [42, 3, 181, 0, 174, 42, 3, 181, 0, 177, 42, 3, 181, 0, 180, 42, 3, 181, 0, 183, 42, 3]
abbrev dktX4_plain_0 : List UInt8 := dkwX4_plain_0 ++ dktX4_plain_1
theorem dksX4_plain_0 : cX4_plain.data.toList.drop 0 = dktX4_plain_0 := by decide +kernel
theorem dksX4_plain_1 : cX4_plain.data.toList.drop 22 = dktX4_plain_1 := dk_seg dksX4_plain_0 22 rfl rfl
theorem dksX4_plain_2 : cX4_plain.data.toList.drop 46 = dktX4_plain_2 := dk_seg dksX4_plain_1 24 rfl rfl
theorem dX4_plain_0 : decode cX4_plain 0 = .ok (.aload_n 0, 1) := dk_42 (dk_at dksX4_plain_0 0 rfl rfl)
theorem dX4_plain_1 : decode cX4_plain 1 = .ok (.iconst 0, 1) := dk_3 (dk_at dksX4_plain_0 1 rfl rfl)
theorem dX4_plain_2 : decode cX4_plain 2 = .ok (.putfield 174, 3) := dk_181 0 174 (dk_at dksX4_plain_0 2 rfl rfl)
theorem dX4_plain_5 : decode cX4_plain 5 = .ok (.aload_n 0, 1) := dk_42 (dk_at dksX4_plain_0 5 rfl rfl)
theorem dX4_plain_6 : decode cX4_plain 6 = .ok (.iconst 0, 1) := dk_3 (dk_at dksX4_plain_0 6 rfl rfl)
theorem dX4_plain_7 : decode cX4_plain 7 = .ok (.putfield 177, 3) := dk_181 0 177 (dk_at dksX4_plain_0 7 rfl rfl)
theorem dX4_plain_10 : decode cX4_plain 10 = .ok (.aload_n 0, 1) := dk_42 (dk_at dksX4_plain_0 10 rfl rfl)
theorem dX4_plain_11 : decode cX4_plain 11 = .ok (.iconst 0, 1) := dk_3 (dk_at dksX4_plain_0 11 rfl rfl)
theorem dX4_plain_12 : decode cX4_plain 12 = .ok (.putfield 180, 3) := dk_181 0 180 (dk_at dksX4_plain_0 12 rfl rfl)
theorem dX4_plain_15 : decode cX4_plain 15 = .ok (.aload_n 0, 1) := dk_42 (dk_at dksX4_plain_0 15 rfl rfl)
theorem dX4_plain_16 : decode cX4_plain 16 = .ok (.iconst 0, 1) := dk_3 (dk_at dksX4_plain_0 16 rfl rfl)
theorem dX4_plain_17 : decode cX4_plain 17 = .ok (.putfield 183, 3) := dk_181 0 183 (dk_at dksX4_plain_0 17 rfl rfl)
theorem dX4_plain_20 : decode cX4_plain 20 = .ok (.aload_n 0, 1) := dk_42 (dk_at dksX4_plain_0 20 rfl rfl)
theorem dX4_plain_21 : decode cX4_plain 21 = .ok (.iconst 0, 1) := dk_3 (dk_at dksX4_plain_0 21 rfl rfl)
theorem dX4_plain_22 : decode cX4_plain 22 = .ok (.putfield 186, 3) := dk_181 0 186 (dk_at dksX4_plain_1 0 rfl rfl)
theorem dX4_plain_25 : decode cX4_plain 25 = .ok (.aload_n 0, 1) := dk_42 (dk_at dksX4_plain_1 3 rfl rfl)
theorem dX4_plain_26 : decode cX4_plain 26 = .ok (.iconst 0, 1) := dk_3 (dk_at dksX4_plain_1 4 rfl rfl)
theorem dX4_plain_27 : decode cX4_plain 27 = .ok (.putfield 189, 3) := dk_181 0 189 (dk_at dksX4_plain_1 5 rfl rfl)
theorem dX4_plain_30 : decode cX4_plain 30 = .ok (.iconst 3, 1) := dk_6 (dk_at dksX4_plain_1 8 rfl rfl)
theorem dX4_plain_31 : decode cX4_plain 31 = .ok (.istore_n 1, 1) := dk_60 (dk_at dksX4_plain_1 9 rfl rfl)
theorem dX4_plain_32 : decode cX4_plain 32 = .ok (.iload_n 1, 1) := dk_27 (dk_at dksX4_plain_1 10 rfl rfl)
theorem dX4_plain_33 : decode cX4_plain 33 = .ok (.bipush 6, 2) := dk_16 6 (dk_at dksX4_plain_1 11 rfl rfl)
theorem dX4_plain_35 : decode cX4_plain 35 = .ok (.if_icmp .ge 23, 3) := dk_162 0 23 (dk_at dksX4_plain_1 13 rfl rfl)
theorem dX4_plain_38 : decode cX4_plain 38 = .ok (.aload_n 0, 1) := dk_42 (dk_at dksX4_plain_1 16 rfl rfl)
theorem dX4_plain_39 : decode cX4_plain 39 = .ok (.getfield 75, 3) := dk_180 0 75 (dk_at dksX4_plain_1 17 rfl rfl)
theorem dX4_plain_42 : decode cX4_plain 42 = .ok (.iload_n 1, 1) := dk_27 (dk_at dksX4_plain_1 20 rfl rfl)
theorem dX4_plain_43 : decode cX4_plain 43 = .ok (.iconst 0, 1) := dk_3 (dk_at dksX4_plain_1 21 rfl rfl)
theorem dX4_plain_44 : decode cX4_plain 44 = .ok (.iastore, 1) := dk_79 (dk_at dksX4_plain_1 22 rfl rfl)
theorem dX4_plain_45 : decode cX4_plain 45 = .ok (.aload_n 0, 1) := dk_42 (dk_at dksX4_plain_1 23 rfl rfl)
theorem dX4_plain_46 : decode cX4_plain 46 = .ok (.getfield 78, 3) := dk_180 0 78 (dk_at dksX4_plain_2 0 rfl rfl)
theorem dX4_plain_49 : decode cX4_plain 49 = .ok (.iload_n 1, 1) := dk_27 (dk_at dksX4_plain_2 3 rfl rfl)
theorem dX4_plain_50 : decode cX4_plain 50 = .ok (.iconst 0, 1) := dk_3 (dk_at dksX4_plain_2 4 rfl rfl)
theorem dX4_plain_51 : decode cX4_plain 51 = .ok (.iastore, 1) := dk_79 (dk_at dksX4_plain_2 5 rfl rfl)
theorem dX4_plain_52 : decode cX4_plain 52 = .ok (.iinc 1 1, 3) := dk_132 1 1 (dk_at dksX4_plain_2 6 rfl rfl)
theorem dX4_plain_55 : decode cX4_plain 55 = .ok (.goto (-23), 3) := dk_167 255 233 (dk_at dksX4_plain_2 9 rfl rfl)
theorem dX4_plain_58 : decode cX4_plain 58 = .ok (.return_, 1) := dk_177 (dk_at dksX4_plain_2 12 rfl rfl)
abbrev cX4_keep : ByteArray := prog_18_method_19_code
def yX4_keep : MethodName := ⟨RX4, "keep", "()V"⟩
def dkwX4_keep_17 : List UInt8 := [181, 0, 211, 42, 17, 0, 199, 181, 0, 214, 42, 3, 181, 0, 217, 177]
abbrev dktX4_keep_17 : List UInt8 := dkwX4_keep_17 ++ []
def dkwX4_keep_16 : List UInt8 := [180, 0, 87, 27, 42, 180, 0, 87, 16, 64, 27, 96, 46, 79, 132, 1, 1, 167, 255, 202, 42, 3]
abbrev dktX4_keep_16 : List UInt8 := dkwX4_keep_16 ++ dktX4_keep_17
def dkwX4_keep_15 : List UInt8 := [16, 64, 27, 96, 46, 79, 42, 180, 0, 84, 27, 42, 180, 0, 84, 16, 64, 27, 96, 46, 79, 42]
abbrev dktX4_keep_15 : List UInt8 := dkwX4_keep_15 ++ dktX4_keep_16
def dkwX4_keep_14 : List UInt8 := [132, 1, 1, 167, 255, 220, 3, 60, 27, 16, 64, 162, 0, 54, 42, 180, 0, 81, 27, 42, 180, 0, 81]
abbrev dktX4_keep_14 : List UInt8 := dkwX4_keep_14 ++ dktX4_keep_15
def dkwX4_keep_13 : List UInt8 := [42, 180, 0, 75, 6, 27, 96, 46, 79, 42, 180, 0, 78, 27, 42, 180, 0, 78, 6, 27, 96, 46, 79]
abbrev dktX4_keep_13 : List UInt8 := dkwX4_keep_13 ++ dktX4_keep_14
def dkwX4_keep_12 : List UInt8 := [16, 20, 27, 96, 46, 79, 132, 1, 1, 167, 255, 202, 3, 60, 27, 6, 162, 0, 37, 42, 180, 0, 75, 27]
abbrev dktX4_keep_12 : List UInt8 := dkwX4_keep_12 ++ dktX4_keep_13
def dkwX4_keep_11 : List UInt8 := [180, 0, 69, 27, 42, 180, 0, 69, 16, 20, 27, 96, 46, 79, 42, 180, 0, 72, 27, 42, 180, 0, 72]
abbrev dktX4_keep_11 : List UInt8 := dkwX4_keep_11 ++ dktX4_keep_12
def dkwX4_keep_10 : List UInt8 := [27, 16, 20, 162, 0, 54, 42, 180, 0, 66, 27, 42, 180, 0, 66, 16, 20, 27, 96, 46, 79, 42]
abbrev dktX4_keep_10 : List UInt8 := dkwX4_keep_10 ++ dktX4_keep_11
def dkwX4_keep_9 : List UInt8 := [60, 27, 16, 40, 162, 0, 18, 42, 16, 60, 27, 96, 27, 182, 0, 207, 132, 1, 1, 167, 255, 238, 3, 60]
abbrev dktX4_keep_9 : List UInt8 := dkwX4_keep_9 ++ dktX4_keep_10
def dkwX4_keep_8 : List UInt8 := [96, 46, 79, 42, 180, 0, 47, 27, 42, 180, 0, 47, 8, 27, 96, 46, 79, 132, 1, 1, 167, 255, 178, 3]
abbrev dktX4_keep_8 : List UInt8 := dkwX4_keep_8 ++ dktX4_keep_9
def dkwX4_keep_7 : List UInt8 := [180, 0, 41, 27, 42, 180, 0, 41, 8, 27, 96, 46, 79, 42, 180, 0, 44, 27, 42, 180, 0, 44, 8, 27]
abbrev dktX4_keep_7 : List UInt8 := dkwX4_keep_7 ++ dktX4_keep_8
def dkwX4_keep_6 : List UInt8 := [42, 180, 0, 35, 8, 27, 96, 46, 79, 42, 180, 0, 38, 27, 42, 180, 0, 38, 8, 27, 96, 46, 79, 42]
abbrev dktX4_keep_6 : List UInt8 := dkwX4_keep_6 ++ dktX4_keep_7
def dkwX4_keep_5 : List UInt8 := [16, 8, 27, 96, 46, 79, 132, 1, 1, 167, 255, 172, 3, 60, 27, 8, 162, 0, 79, 42, 180, 0, 35, 27]
abbrev dktX4_keep_5 : List UInt8 := dkwX4_keep_5 ++ dktX4_keep_6
def dkwX4_keep_4 : List UInt8 := [180, 0, 29, 27, 42, 180, 0, 29, 16, 8, 27, 96, 46, 79, 42, 180, 0, 32, 27, 42, 180, 0, 32]
abbrev dktX4_keep_4 : List UInt8 := dkwX4_keep_4 ++ dktX4_keep_5
def dkwX4_keep_3 : List UInt8 := [16, 8, 27, 96, 46, 79, 42, 180, 0, 26, 27, 42, 180, 0, 26, 16, 8, 27, 96, 46, 79, 42]
abbrev dktX4_keep_3 : List UInt8 := dkwX4_keep_3 ++ dktX4_keep_4
def dkwX4_keep_2 : List UInt8 := [42, 180, 0, 20, 27, 42, 180, 0, 20, 16, 8, 27, 96, 46, 79, 42, 180, 0, 23, 27, 42, 180, 0, 23]
abbrev dktX4_keep_2 : List UInt8 := dkwX4_keep_2 ++ dktX4_keep_3
def dkwX4_keep_1 : List UInt8 := [42, 42, 180, 0, 183, 181, 0, 201, 42, 42, 180, 0, 186, 181, 0, 204, 3, 60, 27, 16, 8, 162, 0, 84]
abbrev dktX4_keep_1 : List UInt8 := dkwX4_keep_1 ++ dktX4_keep_2
def dkwX4_keep_0 : List UInt8 := [42, 42, 180, 0, 174, 181, 0, 192, 42, 42, 180, 0, 177, 181, 0, 195, 42, 42, 180, 0, 180, 181, 0, 198]
abbrev dktX4_keep_0 : List UInt8 := dkwX4_keep_0 ++ dktX4_keep_1
theorem dksX4_keep_0 : cX4_keep.data.toList.drop 0 = dktX4_keep_0 := by decide +kernel
theorem dksX4_keep_1 : cX4_keep.data.toList.drop 24 = dktX4_keep_1 := dk_seg dksX4_keep_0 24 rfl rfl
theorem dksX4_keep_2 : cX4_keep.data.toList.drop 48 = dktX4_keep_2 := dk_seg dksX4_keep_1 24 rfl rfl
theorem dksX4_keep_3 : cX4_keep.data.toList.drop 72 = dktX4_keep_3 := dk_seg dksX4_keep_2 24 rfl rfl
theorem dksX4_keep_4 : cX4_keep.data.toList.drop 94 = dktX4_keep_4 := dk_seg dksX4_keep_3 22 rfl rfl
theorem dksX4_keep_5 : cX4_keep.data.toList.drop 117 = dktX4_keep_5 := dk_seg dksX4_keep_4 23 rfl rfl
theorem dksX4_keep_6 : cX4_keep.data.toList.drop 141 = dktX4_keep_6 := dk_seg dksX4_keep_5 24 rfl rfl
theorem dksX4_keep_7 : cX4_keep.data.toList.drop 165 = dktX4_keep_7 := dk_seg dksX4_keep_6 24 rfl rfl
theorem dksX4_keep_8 : cX4_keep.data.toList.drop 189 = dktX4_keep_8 := dk_seg dksX4_keep_7 24 rfl rfl
theorem dksX4_keep_9 : cX4_keep.data.toList.drop 213 = dktX4_keep_9 := dk_seg dksX4_keep_8 24 rfl rfl
theorem dksX4_keep_10 : cX4_keep.data.toList.drop 237 = dktX4_keep_10 := dk_seg dksX4_keep_9 24 rfl rfl
theorem dksX4_keep_11 : cX4_keep.data.toList.drop 259 = dktX4_keep_11 := dk_seg dksX4_keep_10 22 rfl rfl
theorem dksX4_keep_12 : cX4_keep.data.toList.drop 282 = dktX4_keep_12 := dk_seg dksX4_keep_11 23 rfl rfl
theorem dksX4_keep_13 : cX4_keep.data.toList.drop 306 = dktX4_keep_13 := dk_seg dksX4_keep_12 24 rfl rfl
theorem dksX4_keep_14 : cX4_keep.data.toList.drop 329 = dktX4_keep_14 := dk_seg dksX4_keep_13 23 rfl rfl
theorem dksX4_keep_15 : cX4_keep.data.toList.drop 352 = dktX4_keep_15 := dk_seg dksX4_keep_14 23 rfl rfl
theorem dksX4_keep_16 : cX4_keep.data.toList.drop 374 = dktX4_keep_16 := dk_seg dksX4_keep_15 22 rfl rfl
theorem dksX4_keep_17 : cX4_keep.data.toList.drop 396 = dktX4_keep_17 := dk_seg dksX4_keep_16 22 rfl rfl
theorem dX4_keep_0 : decode cX4_keep 0 = .ok (.aload_n 0, 1) := dk_42 (dk_at dksX4_keep_0 0 rfl rfl)
theorem dX4_keep_1 : decode cX4_keep 1 = .ok (.aload_n 0, 1) := dk_42 (dk_at dksX4_keep_0 1 rfl rfl)
theorem dX4_keep_2 : decode cX4_keep 2 = .ok (.getfield 174, 3) := dk_180 0 174 (dk_at dksX4_keep_0 2 rfl rfl)
theorem dX4_keep_5 : decode cX4_keep 5 = .ok (.putfield 192, 3) := dk_181 0 192 (dk_at dksX4_keep_0 5 rfl rfl)
theorem dX4_keep_8 : decode cX4_keep 8 = .ok (.aload_n 0, 1) := dk_42 (dk_at dksX4_keep_0 8 rfl rfl)
theorem dX4_keep_9 : decode cX4_keep 9 = .ok (.aload_n 0, 1) := dk_42 (dk_at dksX4_keep_0 9 rfl rfl)
theorem dX4_keep_10 : decode cX4_keep 10 = .ok (.getfield 177, 3) := dk_180 0 177 (dk_at dksX4_keep_0 10 rfl rfl)
theorem dX4_keep_13 : decode cX4_keep 13 = .ok (.putfield 195, 3) := dk_181 0 195 (dk_at dksX4_keep_0 13 rfl rfl)
theorem dX4_keep_16 : decode cX4_keep 16 = .ok (.aload_n 0, 1) := dk_42 (dk_at dksX4_keep_0 16 rfl rfl)
theorem dX4_keep_17 : decode cX4_keep 17 = .ok (.aload_n 0, 1) := dk_42 (dk_at dksX4_keep_0 17 rfl rfl)
theorem dX4_keep_18 : decode cX4_keep 18 = .ok (.getfield 180, 3) := dk_180 0 180 (dk_at dksX4_keep_0 18 rfl rfl)
theorem dX4_keep_21 : decode cX4_keep 21 = .ok (.putfield 198, 3) := dk_181 0 198 (dk_at dksX4_keep_0 21 rfl rfl)
theorem dX4_keep_24 : decode cX4_keep 24 = .ok (.aload_n 0, 1) := dk_42 (dk_at dksX4_keep_1 0 rfl rfl)
theorem dX4_keep_25 : decode cX4_keep 25 = .ok (.aload_n 0, 1) := dk_42 (dk_at dksX4_keep_1 1 rfl rfl)
theorem dX4_keep_26 : decode cX4_keep 26 = .ok (.getfield 183, 3) := dk_180 0 183 (dk_at dksX4_keep_1 2 rfl rfl)
theorem dX4_keep_29 : decode cX4_keep 29 = .ok (.putfield 201, 3) := dk_181 0 201 (dk_at dksX4_keep_1 5 rfl rfl)
theorem dX4_keep_32 : decode cX4_keep 32 = .ok (.aload_n 0, 1) := dk_42 (dk_at dksX4_keep_1 8 rfl rfl)
theorem dX4_keep_33 : decode cX4_keep 33 = .ok (.aload_n 0, 1) := dk_42 (dk_at dksX4_keep_1 9 rfl rfl)
theorem dX4_keep_34 : decode cX4_keep 34 = .ok (.getfield 186, 3) := dk_180 0 186 (dk_at dksX4_keep_1 10 rfl rfl)
theorem dX4_keep_37 : decode cX4_keep 37 = .ok (.putfield 204, 3) := dk_181 0 204 (dk_at dksX4_keep_1 13 rfl rfl)
theorem dX4_keep_40 : decode cX4_keep 40 = .ok (.iconst 0, 1) := dk_3 (dk_at dksX4_keep_1 16 rfl rfl)
theorem dX4_keep_41 : decode cX4_keep 41 = .ok (.istore_n 1, 1) := dk_60 (dk_at dksX4_keep_1 17 rfl rfl)
theorem dX4_keep_42 : decode cX4_keep 42 = .ok (.iload_n 1, 1) := dk_27 (dk_at dksX4_keep_1 18 rfl rfl)
theorem dX4_keep_43 : decode cX4_keep 43 = .ok (.bipush 8, 2) := dk_16 8 (dk_at dksX4_keep_1 19 rfl rfl)
theorem dX4_keep_45 : decode cX4_keep 45 = .ok (.if_icmp .ge 84, 3) := dk_162 0 84 (dk_at dksX4_keep_1 21 rfl rfl)
theorem dX4_keep_48 : decode cX4_keep 48 = .ok (.aload_n 0, 1) := dk_42 (dk_at dksX4_keep_2 0 rfl rfl)
theorem dX4_keep_49 : decode cX4_keep 49 = .ok (.getfield 20, 3) := dk_180 0 20 (dk_at dksX4_keep_2 1 rfl rfl)
theorem dX4_keep_52 : decode cX4_keep 52 = .ok (.iload_n 1, 1) := dk_27 (dk_at dksX4_keep_2 4 rfl rfl)
theorem dX4_keep_53 : decode cX4_keep 53 = .ok (.aload_n 0, 1) := dk_42 (dk_at dksX4_keep_2 5 rfl rfl)
theorem dX4_keep_54 : decode cX4_keep 54 = .ok (.getfield 20, 3) := dk_180 0 20 (dk_at dksX4_keep_2 6 rfl rfl)
theorem dX4_keep_57 : decode cX4_keep 57 = .ok (.bipush 8, 2) := dk_16 8 (dk_at dksX4_keep_2 9 rfl rfl)
theorem dX4_keep_59 : decode cX4_keep 59 = .ok (.iload_n 1, 1) := dk_27 (dk_at dksX4_keep_2 11 rfl rfl)
theorem dX4_keep_60 : decode cX4_keep 60 = .ok (.iadd, 1) := dk_96 (dk_at dksX4_keep_2 12 rfl rfl)
theorem dX4_keep_61 : decode cX4_keep 61 = .ok (.iaload, 1) := dk_46 (dk_at dksX4_keep_2 13 rfl rfl)
theorem dX4_keep_62 : decode cX4_keep 62 = .ok (.iastore, 1) := dk_79 (dk_at dksX4_keep_2 14 rfl rfl)
theorem dX4_keep_63 : decode cX4_keep 63 = .ok (.aload_n 0, 1) := dk_42 (dk_at dksX4_keep_2 15 rfl rfl)
theorem dX4_keep_64 : decode cX4_keep 64 = .ok (.getfield 23, 3) := dk_180 0 23 (dk_at dksX4_keep_2 16 rfl rfl)
theorem dX4_keep_67 : decode cX4_keep 67 = .ok (.iload_n 1, 1) := dk_27 (dk_at dksX4_keep_2 19 rfl rfl)
theorem dX4_keep_68 : decode cX4_keep 68 = .ok (.aload_n 0, 1) := dk_42 (dk_at dksX4_keep_2 20 rfl rfl)
theorem dX4_keep_69 : decode cX4_keep 69 = .ok (.getfield 23, 3) := dk_180 0 23 (dk_at dksX4_keep_2 21 rfl rfl)
theorem dX4_keep_72 : decode cX4_keep 72 = .ok (.bipush 8, 2) := dk_16 8 (dk_at dksX4_keep_3 0 rfl rfl)
theorem dX4_keep_74 : decode cX4_keep 74 = .ok (.iload_n 1, 1) := dk_27 (dk_at dksX4_keep_3 2 rfl rfl)
theorem dX4_keep_75 : decode cX4_keep 75 = .ok (.iadd, 1) := dk_96 (dk_at dksX4_keep_3 3 rfl rfl)
theorem dX4_keep_76 : decode cX4_keep 76 = .ok (.iaload, 1) := dk_46 (dk_at dksX4_keep_3 4 rfl rfl)
theorem dX4_keep_77 : decode cX4_keep 77 = .ok (.iastore, 1) := dk_79 (dk_at dksX4_keep_3 5 rfl rfl)
theorem dX4_keep_78 : decode cX4_keep 78 = .ok (.aload_n 0, 1) := dk_42 (dk_at dksX4_keep_3 6 rfl rfl)
theorem dX4_keep_79 : decode cX4_keep 79 = .ok (.getfield 26, 3) := dk_180 0 26 (dk_at dksX4_keep_3 7 rfl rfl)
theorem dX4_keep_82 : decode cX4_keep 82 = .ok (.iload_n 1, 1) := dk_27 (dk_at dksX4_keep_3 10 rfl rfl)
theorem dX4_keep_83 : decode cX4_keep 83 = .ok (.aload_n 0, 1) := dk_42 (dk_at dksX4_keep_3 11 rfl rfl)
theorem dX4_keep_84 : decode cX4_keep 84 = .ok (.getfield 26, 3) := dk_180 0 26 (dk_at dksX4_keep_3 12 rfl rfl)
theorem dX4_keep_87 : decode cX4_keep 87 = .ok (.bipush 8, 2) := dk_16 8 (dk_at dksX4_keep_3 15 rfl rfl)
theorem dX4_keep_89 : decode cX4_keep 89 = .ok (.iload_n 1, 1) := dk_27 (dk_at dksX4_keep_3 17 rfl rfl)
theorem dX4_keep_90 : decode cX4_keep 90 = .ok (.iadd, 1) := dk_96 (dk_at dksX4_keep_3 18 rfl rfl)
theorem dX4_keep_91 : decode cX4_keep 91 = .ok (.iaload, 1) := dk_46 (dk_at dksX4_keep_3 19 rfl rfl)
theorem dX4_keep_92 : decode cX4_keep 92 = .ok (.iastore, 1) := dk_79 (dk_at dksX4_keep_3 20 rfl rfl)
theorem dX4_keep_93 : decode cX4_keep 93 = .ok (.aload_n 0, 1) := dk_42 (dk_at dksX4_keep_3 21 rfl rfl)
theorem dX4_keep_94 : decode cX4_keep 94 = .ok (.getfield 29, 3) := dk_180 0 29 (dk_at dksX4_keep_4 0 rfl rfl)
theorem dX4_keep_97 : decode cX4_keep 97 = .ok (.iload_n 1, 1) := dk_27 (dk_at dksX4_keep_4 3 rfl rfl)
theorem dX4_keep_98 : decode cX4_keep 98 = .ok (.aload_n 0, 1) := dk_42 (dk_at dksX4_keep_4 4 rfl rfl)
theorem dX4_keep_99 : decode cX4_keep 99 = .ok (.getfield 29, 3) := dk_180 0 29 (dk_at dksX4_keep_4 5 rfl rfl)
theorem dX4_keep_102 : decode cX4_keep 102 = .ok (.bipush 8, 2) := dk_16 8 (dk_at dksX4_keep_4 8 rfl rfl)
theorem dX4_keep_104 : decode cX4_keep 104 = .ok (.iload_n 1, 1) := dk_27 (dk_at dksX4_keep_4 10 rfl rfl)
theorem dX4_keep_105 : decode cX4_keep 105 = .ok (.iadd, 1) := dk_96 (dk_at dksX4_keep_4 11 rfl rfl)
theorem dX4_keep_106 : decode cX4_keep 106 = .ok (.iaload, 1) := dk_46 (dk_at dksX4_keep_4 12 rfl rfl)
theorem dX4_keep_107 : decode cX4_keep 107 = .ok (.iastore, 1) := dk_79 (dk_at dksX4_keep_4 13 rfl rfl)
theorem dX4_keep_108 : decode cX4_keep 108 = .ok (.aload_n 0, 1) := dk_42 (dk_at dksX4_keep_4 14 rfl rfl)
theorem dX4_keep_109 : decode cX4_keep 109 = .ok (.getfield 32, 3) := dk_180 0 32 (dk_at dksX4_keep_4 15 rfl rfl)
theorem dX4_keep_112 : decode cX4_keep 112 = .ok (.iload_n 1, 1) := dk_27 (dk_at dksX4_keep_4 18 rfl rfl)
theorem dX4_keep_113 : decode cX4_keep 113 = .ok (.aload_n 0, 1) := dk_42 (dk_at dksX4_keep_4 19 rfl rfl)
theorem dX4_keep_114 : decode cX4_keep 114 = .ok (.getfield 32, 3) := dk_180 0 32 (dk_at dksX4_keep_4 20 rfl rfl)
theorem dX4_keep_117 : decode cX4_keep 117 = .ok (.bipush 8, 2) := dk_16 8 (dk_at dksX4_keep_5 0 rfl rfl)
theorem dX4_keep_119 : decode cX4_keep 119 = .ok (.iload_n 1, 1) := dk_27 (dk_at dksX4_keep_5 2 rfl rfl)
theorem dX4_keep_120 : decode cX4_keep 120 = .ok (.iadd, 1) := dk_96 (dk_at dksX4_keep_5 3 rfl rfl)
theorem dX4_keep_121 : decode cX4_keep 121 = .ok (.iaload, 1) := dk_46 (dk_at dksX4_keep_5 4 rfl rfl)
theorem dX4_keep_122 : decode cX4_keep 122 = .ok (.iastore, 1) := dk_79 (dk_at dksX4_keep_5 5 rfl rfl)
theorem dX4_keep_123 : decode cX4_keep 123 = .ok (.iinc 1 1, 3) := dk_132 1 1 (dk_at dksX4_keep_5 6 rfl rfl)
theorem dX4_keep_126 : decode cX4_keep 126 = .ok (.goto (-84), 3) := dk_167 255 172 (dk_at dksX4_keep_5 9 rfl rfl)
theorem dX4_keep_129 : decode cX4_keep 129 = .ok (.iconst 0, 1) := dk_3 (dk_at dksX4_keep_5 12 rfl rfl)
theorem dX4_keep_130 : decode cX4_keep 130 = .ok (.istore_n 1, 1) := dk_60 (dk_at dksX4_keep_5 13 rfl rfl)
theorem dX4_keep_131 : decode cX4_keep 131 = .ok (.iload_n 1, 1) := dk_27 (dk_at dksX4_keep_5 14 rfl rfl)
theorem dX4_keep_132 : decode cX4_keep 132 = .ok (.iconst 5, 1) := dk_8 (dk_at dksX4_keep_5 15 rfl rfl)
theorem dX4_keep_133 : decode cX4_keep 133 = .ok (.if_icmp .ge 79, 3) := dk_162 0 79 (dk_at dksX4_keep_5 16 rfl rfl)
theorem dX4_keep_136 : decode cX4_keep 136 = .ok (.aload_n 0, 1) := dk_42 (dk_at dksX4_keep_5 19 rfl rfl)
theorem dX4_keep_137 : decode cX4_keep 137 = .ok (.getfield 35, 3) := dk_180 0 35 (dk_at dksX4_keep_5 20 rfl rfl)
theorem dX4_keep_140 : decode cX4_keep 140 = .ok (.iload_n 1, 1) := dk_27 (dk_at dksX4_keep_5 23 rfl rfl)
theorem dX4_keep_141 : decode cX4_keep 141 = .ok (.aload_n 0, 1) := dk_42 (dk_at dksX4_keep_6 0 rfl rfl)
theorem dX4_keep_142 : decode cX4_keep 142 = .ok (.getfield 35, 3) := dk_180 0 35 (dk_at dksX4_keep_6 1 rfl rfl)
theorem dX4_keep_145 : decode cX4_keep 145 = .ok (.iconst 5, 1) := dk_8 (dk_at dksX4_keep_6 4 rfl rfl)
theorem dX4_keep_146 : decode cX4_keep 146 = .ok (.iload_n 1, 1) := dk_27 (dk_at dksX4_keep_6 5 rfl rfl)
theorem dX4_keep_147 : decode cX4_keep 147 = .ok (.iadd, 1) := dk_96 (dk_at dksX4_keep_6 6 rfl rfl)
theorem dX4_keep_148 : decode cX4_keep 148 = .ok (.iaload, 1) := dk_46 (dk_at dksX4_keep_6 7 rfl rfl)
theorem dX4_keep_149 : decode cX4_keep 149 = .ok (.iastore, 1) := dk_79 (dk_at dksX4_keep_6 8 rfl rfl)
theorem dX4_keep_150 : decode cX4_keep 150 = .ok (.aload_n 0, 1) := dk_42 (dk_at dksX4_keep_6 9 rfl rfl)
theorem dX4_keep_151 : decode cX4_keep 151 = .ok (.getfield 38, 3) := dk_180 0 38 (dk_at dksX4_keep_6 10 rfl rfl)
theorem dX4_keep_154 : decode cX4_keep 154 = .ok (.iload_n 1, 1) := dk_27 (dk_at dksX4_keep_6 13 rfl rfl)
theorem dX4_keep_155 : decode cX4_keep 155 = .ok (.aload_n 0, 1) := dk_42 (dk_at dksX4_keep_6 14 rfl rfl)
theorem dX4_keep_156 : decode cX4_keep 156 = .ok (.getfield 38, 3) := dk_180 0 38 (dk_at dksX4_keep_6 15 rfl rfl)
theorem dX4_keep_159 : decode cX4_keep 159 = .ok (.iconst 5, 1) := dk_8 (dk_at dksX4_keep_6 18 rfl rfl)
theorem dX4_keep_160 : decode cX4_keep 160 = .ok (.iload_n 1, 1) := dk_27 (dk_at dksX4_keep_6 19 rfl rfl)
theorem dX4_keep_161 : decode cX4_keep 161 = .ok (.iadd, 1) := dk_96 (dk_at dksX4_keep_6 20 rfl rfl)
theorem dX4_keep_162 : decode cX4_keep 162 = .ok (.iaload, 1) := dk_46 (dk_at dksX4_keep_6 21 rfl rfl)
theorem dX4_keep_163 : decode cX4_keep 163 = .ok (.iastore, 1) := dk_79 (dk_at dksX4_keep_6 22 rfl rfl)
theorem dX4_keep_164 : decode cX4_keep 164 = .ok (.aload_n 0, 1) := dk_42 (dk_at dksX4_keep_6 23 rfl rfl)
theorem dX4_keep_165 : decode cX4_keep 165 = .ok (.getfield 41, 3) := dk_180 0 41 (dk_at dksX4_keep_7 0 rfl rfl)
theorem dX4_keep_168 : decode cX4_keep 168 = .ok (.iload_n 1, 1) := dk_27 (dk_at dksX4_keep_7 3 rfl rfl)
theorem dX4_keep_169 : decode cX4_keep 169 = .ok (.aload_n 0, 1) := dk_42 (dk_at dksX4_keep_7 4 rfl rfl)
theorem dX4_keep_170 : decode cX4_keep 170 = .ok (.getfield 41, 3) := dk_180 0 41 (dk_at dksX4_keep_7 5 rfl rfl)
theorem dX4_keep_173 : decode cX4_keep 173 = .ok (.iconst 5, 1) := dk_8 (dk_at dksX4_keep_7 8 rfl rfl)
theorem dX4_keep_174 : decode cX4_keep 174 = .ok (.iload_n 1, 1) := dk_27 (dk_at dksX4_keep_7 9 rfl rfl)
theorem dX4_keep_175 : decode cX4_keep 175 = .ok (.iadd, 1) := dk_96 (dk_at dksX4_keep_7 10 rfl rfl)
theorem dX4_keep_176 : decode cX4_keep 176 = .ok (.iaload, 1) := dk_46 (dk_at dksX4_keep_7 11 rfl rfl)
theorem dX4_keep_177 : decode cX4_keep 177 = .ok (.iastore, 1) := dk_79 (dk_at dksX4_keep_7 12 rfl rfl)
theorem dX4_keep_178 : decode cX4_keep 178 = .ok (.aload_n 0, 1) := dk_42 (dk_at dksX4_keep_7 13 rfl rfl)
theorem dX4_keep_179 : decode cX4_keep 179 = .ok (.getfield 44, 3) := dk_180 0 44 (dk_at dksX4_keep_7 14 rfl rfl)
theorem dX4_keep_182 : decode cX4_keep 182 = .ok (.iload_n 1, 1) := dk_27 (dk_at dksX4_keep_7 17 rfl rfl)
theorem dX4_keep_183 : decode cX4_keep 183 = .ok (.aload_n 0, 1) := dk_42 (dk_at dksX4_keep_7 18 rfl rfl)
theorem dX4_keep_184 : decode cX4_keep 184 = .ok (.getfield 44, 3) := dk_180 0 44 (dk_at dksX4_keep_7 19 rfl rfl)
theorem dX4_keep_187 : decode cX4_keep 187 = .ok (.iconst 5, 1) := dk_8 (dk_at dksX4_keep_7 22 rfl rfl)
theorem dX4_keep_188 : decode cX4_keep 188 = .ok (.iload_n 1, 1) := dk_27 (dk_at dksX4_keep_7 23 rfl rfl)
theorem dX4_keep_189 : decode cX4_keep 189 = .ok (.iadd, 1) := dk_96 (dk_at dksX4_keep_8 0 rfl rfl)
theorem dX4_keep_190 : decode cX4_keep 190 = .ok (.iaload, 1) := dk_46 (dk_at dksX4_keep_8 1 rfl rfl)
theorem dX4_keep_191 : decode cX4_keep 191 = .ok (.iastore, 1) := dk_79 (dk_at dksX4_keep_8 2 rfl rfl)
theorem dX4_keep_192 : decode cX4_keep 192 = .ok (.aload_n 0, 1) := dk_42 (dk_at dksX4_keep_8 3 rfl rfl)
theorem dX4_keep_193 : decode cX4_keep 193 = .ok (.getfield 47, 3) := dk_180 0 47 (dk_at dksX4_keep_8 4 rfl rfl)
theorem dX4_keep_196 : decode cX4_keep 196 = .ok (.iload_n 1, 1) := dk_27 (dk_at dksX4_keep_8 7 rfl rfl)
theorem dX4_keep_197 : decode cX4_keep 197 = .ok (.aload_n 0, 1) := dk_42 (dk_at dksX4_keep_8 8 rfl rfl)
theorem dX4_keep_198 : decode cX4_keep 198 = .ok (.getfield 47, 3) := dk_180 0 47 (dk_at dksX4_keep_8 9 rfl rfl)
theorem dX4_keep_201 : decode cX4_keep 201 = .ok (.iconst 5, 1) := dk_8 (dk_at dksX4_keep_8 12 rfl rfl)
theorem dX4_keep_202 : decode cX4_keep 202 = .ok (.iload_n 1, 1) := dk_27 (dk_at dksX4_keep_8 13 rfl rfl)
theorem dX4_keep_203 : decode cX4_keep 203 = .ok (.iadd, 1) := dk_96 (dk_at dksX4_keep_8 14 rfl rfl)
theorem dX4_keep_204 : decode cX4_keep 204 = .ok (.iaload, 1) := dk_46 (dk_at dksX4_keep_8 15 rfl rfl)
theorem dX4_keep_205 : decode cX4_keep 205 = .ok (.iastore, 1) := dk_79 (dk_at dksX4_keep_8 16 rfl rfl)
theorem dX4_keep_206 : decode cX4_keep 206 = .ok (.iinc 1 1, 3) := dk_132 1 1 (dk_at dksX4_keep_8 17 rfl rfl)
theorem dX4_keep_209 : decode cX4_keep 209 = .ok (.goto (-78), 3) := dk_167 255 178 (dk_at dksX4_keep_8 20 rfl rfl)
theorem dX4_keep_212 : decode cX4_keep 212 = .ok (.iconst 0, 1) := dk_3 (dk_at dksX4_keep_8 23 rfl rfl)
theorem dX4_keep_213 : decode cX4_keep 213 = .ok (.istore_n 1, 1) := dk_60 (dk_at dksX4_keep_9 0 rfl rfl)
theorem dX4_keep_214 : decode cX4_keep 214 = .ok (.iload_n 1, 1) := dk_27 (dk_at dksX4_keep_9 1 rfl rfl)
theorem dX4_keep_215 : decode cX4_keep 215 = .ok (.bipush 40, 2) := dk_16 40 (dk_at dksX4_keep_9 2 rfl rfl)
theorem dX4_keep_217 : decode cX4_keep 217 = .ok (.if_icmp .ge 18, 3) := dk_162 0 18 (dk_at dksX4_keep_9 4 rfl rfl)
theorem dX4_keep_220 : decode cX4_keep 220 = .ok (.aload_n 0, 1) := dk_42 (dk_at dksX4_keep_9 7 rfl rfl)
theorem dX4_keep_221 : decode cX4_keep 221 = .ok (.bipush 60, 2) := dk_16 60 (dk_at dksX4_keep_9 8 rfl rfl)
theorem dX4_keep_223 : decode cX4_keep 223 = .ok (.iload_n 1, 1) := dk_27 (dk_at dksX4_keep_9 10 rfl rfl)
theorem dX4_keep_224 : decode cX4_keep 224 = .ok (.iadd, 1) := dk_96 (dk_at dksX4_keep_9 11 rfl rfl)
theorem dX4_keep_225 : decode cX4_keep 225 = .ok (.iload_n 1, 1) := dk_27 (dk_at dksX4_keep_9 12 rfl rfl)
theorem dX4_keep_226 : decode cX4_keep 226 = .ok (.invokevirtual 207, 3) := dk_182 0 207 (dk_at dksX4_keep_9 13 rfl rfl)
theorem dX4_keep_229 : decode cX4_keep 229 = .ok (.iinc 1 1, 3) := dk_132 1 1 (dk_at dksX4_keep_9 16 rfl rfl)
theorem dX4_keep_232 : decode cX4_keep 232 = .ok (.goto (-18), 3) := dk_167 255 238 (dk_at dksX4_keep_9 19 rfl rfl)
theorem dX4_keep_235 : decode cX4_keep 235 = .ok (.iconst 0, 1) := dk_3 (dk_at dksX4_keep_9 22 rfl rfl)
theorem dX4_keep_236 : decode cX4_keep 236 = .ok (.istore_n 1, 1) := dk_60 (dk_at dksX4_keep_9 23 rfl rfl)
theorem dX4_keep_237 : decode cX4_keep 237 = .ok (.iload_n 1, 1) := dk_27 (dk_at dksX4_keep_10 0 rfl rfl)
theorem dX4_keep_238 : decode cX4_keep 238 = .ok (.bipush 20, 2) := dk_16 20 (dk_at dksX4_keep_10 1 rfl rfl)
theorem dX4_keep_240 : decode cX4_keep 240 = .ok (.if_icmp .ge 54, 3) := dk_162 0 54 (dk_at dksX4_keep_10 3 rfl rfl)
theorem dX4_keep_243 : decode cX4_keep 243 = .ok (.aload_n 0, 1) := dk_42 (dk_at dksX4_keep_10 6 rfl rfl)
theorem dX4_keep_244 : decode cX4_keep 244 = .ok (.getfield 66, 3) := dk_180 0 66 (dk_at dksX4_keep_10 7 rfl rfl)
theorem dX4_keep_247 : decode cX4_keep 247 = .ok (.iload_n 1, 1) := dk_27 (dk_at dksX4_keep_10 10 rfl rfl)
theorem dX4_keep_248 : decode cX4_keep 248 = .ok (.aload_n 0, 1) := dk_42 (dk_at dksX4_keep_10 11 rfl rfl)
theorem dX4_keep_249 : decode cX4_keep 249 = .ok (.getfield 66, 3) := dk_180 0 66 (dk_at dksX4_keep_10 12 rfl rfl)
theorem dX4_keep_252 : decode cX4_keep 252 = .ok (.bipush 20, 2) := dk_16 20 (dk_at dksX4_keep_10 15 rfl rfl)
theorem dX4_keep_254 : decode cX4_keep 254 = .ok (.iload_n 1, 1) := dk_27 (dk_at dksX4_keep_10 17 rfl rfl)
theorem dX4_keep_255 : decode cX4_keep 255 = .ok (.iadd, 1) := dk_96 (dk_at dksX4_keep_10 18 rfl rfl)
theorem dX4_keep_256 : decode cX4_keep 256 = .ok (.iaload, 1) := dk_46 (dk_at dksX4_keep_10 19 rfl rfl)
theorem dX4_keep_257 : decode cX4_keep 257 = .ok (.iastore, 1) := dk_79 (dk_at dksX4_keep_10 20 rfl rfl)
theorem dX4_keep_258 : decode cX4_keep 258 = .ok (.aload_n 0, 1) := dk_42 (dk_at dksX4_keep_10 21 rfl rfl)
theorem dX4_keep_259 : decode cX4_keep 259 = .ok (.getfield 69, 3) := dk_180 0 69 (dk_at dksX4_keep_11 0 rfl rfl)
theorem dX4_keep_262 : decode cX4_keep 262 = .ok (.iload_n 1, 1) := dk_27 (dk_at dksX4_keep_11 3 rfl rfl)
theorem dX4_keep_263 : decode cX4_keep 263 = .ok (.aload_n 0, 1) := dk_42 (dk_at dksX4_keep_11 4 rfl rfl)
theorem dX4_keep_264 : decode cX4_keep 264 = .ok (.getfield 69, 3) := dk_180 0 69 (dk_at dksX4_keep_11 5 rfl rfl)
theorem dX4_keep_267 : decode cX4_keep 267 = .ok (.bipush 20, 2) := dk_16 20 (dk_at dksX4_keep_11 8 rfl rfl)
theorem dX4_keep_269 : decode cX4_keep 269 = .ok (.iload_n 1, 1) := dk_27 (dk_at dksX4_keep_11 10 rfl rfl)
theorem dX4_keep_270 : decode cX4_keep 270 = .ok (.iadd, 1) := dk_96 (dk_at dksX4_keep_11 11 rfl rfl)
theorem dX4_keep_271 : decode cX4_keep 271 = .ok (.iaload, 1) := dk_46 (dk_at dksX4_keep_11 12 rfl rfl)
theorem dX4_keep_272 : decode cX4_keep 272 = .ok (.iastore, 1) := dk_79 (dk_at dksX4_keep_11 13 rfl rfl)
theorem dX4_keep_273 : decode cX4_keep 273 = .ok (.aload_n 0, 1) := dk_42 (dk_at dksX4_keep_11 14 rfl rfl)
theorem dX4_keep_274 : decode cX4_keep 274 = .ok (.getfield 72, 3) := dk_180 0 72 (dk_at dksX4_keep_11 15 rfl rfl)
theorem dX4_keep_277 : decode cX4_keep 277 = .ok (.iload_n 1, 1) := dk_27 (dk_at dksX4_keep_11 18 rfl rfl)
theorem dX4_keep_278 : decode cX4_keep 278 = .ok (.aload_n 0, 1) := dk_42 (dk_at dksX4_keep_11 19 rfl rfl)
theorem dX4_keep_279 : decode cX4_keep 279 = .ok (.getfield 72, 3) := dk_180 0 72 (dk_at dksX4_keep_11 20 rfl rfl)
theorem dX4_keep_282 : decode cX4_keep 282 = .ok (.bipush 20, 2) := dk_16 20 (dk_at dksX4_keep_12 0 rfl rfl)
theorem dX4_keep_284 : decode cX4_keep 284 = .ok (.iload_n 1, 1) := dk_27 (dk_at dksX4_keep_12 2 rfl rfl)
theorem dX4_keep_285 : decode cX4_keep 285 = .ok (.iadd, 1) := dk_96 (dk_at dksX4_keep_12 3 rfl rfl)
theorem dX4_keep_286 : decode cX4_keep 286 = .ok (.iaload, 1) := dk_46 (dk_at dksX4_keep_12 4 rfl rfl)
theorem dX4_keep_287 : decode cX4_keep 287 = .ok (.iastore, 1) := dk_79 (dk_at dksX4_keep_12 5 rfl rfl)
theorem dX4_keep_288 : decode cX4_keep 288 = .ok (.iinc 1 1, 3) := dk_132 1 1 (dk_at dksX4_keep_12 6 rfl rfl)
theorem dX4_keep_291 : decode cX4_keep 291 = .ok (.goto (-54), 3) := dk_167 255 202 (dk_at dksX4_keep_12 9 rfl rfl)
theorem dX4_keep_294 : decode cX4_keep 294 = .ok (.iconst 0, 1) := dk_3 (dk_at dksX4_keep_12 12 rfl rfl)
theorem dX4_keep_295 : decode cX4_keep 295 = .ok (.istore_n 1, 1) := dk_60 (dk_at dksX4_keep_12 13 rfl rfl)
theorem dX4_keep_296 : decode cX4_keep 296 = .ok (.iload_n 1, 1) := dk_27 (dk_at dksX4_keep_12 14 rfl rfl)
theorem dX4_keep_297 : decode cX4_keep 297 = .ok (.iconst 3, 1) := dk_6 (dk_at dksX4_keep_12 15 rfl rfl)
theorem dX4_keep_298 : decode cX4_keep 298 = .ok (.if_icmp .ge 37, 3) := dk_162 0 37 (dk_at dksX4_keep_12 16 rfl rfl)
theorem dX4_keep_301 : decode cX4_keep 301 = .ok (.aload_n 0, 1) := dk_42 (dk_at dksX4_keep_12 19 rfl rfl)
theorem dX4_keep_302 : decode cX4_keep 302 = .ok (.getfield 75, 3) := dk_180 0 75 (dk_at dksX4_keep_12 20 rfl rfl)
theorem dX4_keep_305 : decode cX4_keep 305 = .ok (.iload_n 1, 1) := dk_27 (dk_at dksX4_keep_12 23 rfl rfl)
theorem dX4_keep_306 : decode cX4_keep 306 = .ok (.aload_n 0, 1) := dk_42 (dk_at dksX4_keep_13 0 rfl rfl)
theorem dX4_keep_307 : decode cX4_keep 307 = .ok (.getfield 75, 3) := dk_180 0 75 (dk_at dksX4_keep_13 1 rfl rfl)
theorem dX4_keep_310 : decode cX4_keep 310 = .ok (.iconst 3, 1) := dk_6 (dk_at dksX4_keep_13 4 rfl rfl)
theorem dX4_keep_311 : decode cX4_keep 311 = .ok (.iload_n 1, 1) := dk_27 (dk_at dksX4_keep_13 5 rfl rfl)
theorem dX4_keep_312 : decode cX4_keep 312 = .ok (.iadd, 1) := dk_96 (dk_at dksX4_keep_13 6 rfl rfl)
theorem dX4_keep_313 : decode cX4_keep 313 = .ok (.iaload, 1) := dk_46 (dk_at dksX4_keep_13 7 rfl rfl)
theorem dX4_keep_314 : decode cX4_keep 314 = .ok (.iastore, 1) := dk_79 (dk_at dksX4_keep_13 8 rfl rfl)
theorem dX4_keep_315 : decode cX4_keep 315 = .ok (.aload_n 0, 1) := dk_42 (dk_at dksX4_keep_13 9 rfl rfl)
theorem dX4_keep_316 : decode cX4_keep 316 = .ok (.getfield 78, 3) := dk_180 0 78 (dk_at dksX4_keep_13 10 rfl rfl)
theorem dX4_keep_319 : decode cX4_keep 319 = .ok (.iload_n 1, 1) := dk_27 (dk_at dksX4_keep_13 13 rfl rfl)
theorem dX4_keep_320 : decode cX4_keep 320 = .ok (.aload_n 0, 1) := dk_42 (dk_at dksX4_keep_13 14 rfl rfl)
theorem dX4_keep_321 : decode cX4_keep 321 = .ok (.getfield 78, 3) := dk_180 0 78 (dk_at dksX4_keep_13 15 rfl rfl)
theorem dX4_keep_324 : decode cX4_keep 324 = .ok (.iconst 3, 1) := dk_6 (dk_at dksX4_keep_13 18 rfl rfl)
theorem dX4_keep_325 : decode cX4_keep 325 = .ok (.iload_n 1, 1) := dk_27 (dk_at dksX4_keep_13 19 rfl rfl)
theorem dX4_keep_326 : decode cX4_keep 326 = .ok (.iadd, 1) := dk_96 (dk_at dksX4_keep_13 20 rfl rfl)
theorem dX4_keep_327 : decode cX4_keep 327 = .ok (.iaload, 1) := dk_46 (dk_at dksX4_keep_13 21 rfl rfl)
theorem dX4_keep_328 : decode cX4_keep 328 = .ok (.iastore, 1) := dk_79 (dk_at dksX4_keep_13 22 rfl rfl)
theorem dX4_keep_329 : decode cX4_keep 329 = .ok (.iinc 1 1, 3) := dk_132 1 1 (dk_at dksX4_keep_14 0 rfl rfl)
theorem dX4_keep_332 : decode cX4_keep 332 = .ok (.goto (-36), 3) := dk_167 255 220 (dk_at dksX4_keep_14 3 rfl rfl)
theorem dX4_keep_335 : decode cX4_keep 335 = .ok (.iconst 0, 1) := dk_3 (dk_at dksX4_keep_14 6 rfl rfl)
theorem dX4_keep_336 : decode cX4_keep 336 = .ok (.istore_n 1, 1) := dk_60 (dk_at dksX4_keep_14 7 rfl rfl)
theorem dX4_keep_337 : decode cX4_keep 337 = .ok (.iload_n 1, 1) := dk_27 (dk_at dksX4_keep_14 8 rfl rfl)
theorem dX4_keep_338 : decode cX4_keep 338 = .ok (.bipush 64, 2) := dk_16 64 (dk_at dksX4_keep_14 9 rfl rfl)
theorem dX4_keep_340 : decode cX4_keep 340 = .ok (.if_icmp .ge 54, 3) := dk_162 0 54 (dk_at dksX4_keep_14 11 rfl rfl)
theorem dX4_keep_343 : decode cX4_keep 343 = .ok (.aload_n 0, 1) := dk_42 (dk_at dksX4_keep_14 14 rfl rfl)
theorem dX4_keep_344 : decode cX4_keep 344 = .ok (.getfield 81, 3) := dk_180 0 81 (dk_at dksX4_keep_14 15 rfl rfl)
theorem dX4_keep_347 : decode cX4_keep 347 = .ok (.iload_n 1, 1) := dk_27 (dk_at dksX4_keep_14 18 rfl rfl)
theorem dX4_keep_348 : decode cX4_keep 348 = .ok (.aload_n 0, 1) := dk_42 (dk_at dksX4_keep_14 19 rfl rfl)
theorem dX4_keep_349 : decode cX4_keep 349 = .ok (.getfield 81, 3) := dk_180 0 81 (dk_at dksX4_keep_14 20 rfl rfl)
theorem dX4_keep_352 : decode cX4_keep 352 = .ok (.bipush 64, 2) := dk_16 64 (dk_at dksX4_keep_15 0 rfl rfl)
theorem dX4_keep_354 : decode cX4_keep 354 = .ok (.iload_n 1, 1) := dk_27 (dk_at dksX4_keep_15 2 rfl rfl)
theorem dX4_keep_355 : decode cX4_keep 355 = .ok (.iadd, 1) := dk_96 (dk_at dksX4_keep_15 3 rfl rfl)
theorem dX4_keep_356 : decode cX4_keep 356 = .ok (.iaload, 1) := dk_46 (dk_at dksX4_keep_15 4 rfl rfl)
theorem dX4_keep_357 : decode cX4_keep 357 = .ok (.iastore, 1) := dk_79 (dk_at dksX4_keep_15 5 rfl rfl)
theorem dX4_keep_358 : decode cX4_keep 358 = .ok (.aload_n 0, 1) := dk_42 (dk_at dksX4_keep_15 6 rfl rfl)
theorem dX4_keep_359 : decode cX4_keep 359 = .ok (.getfield 84, 3) := dk_180 0 84 (dk_at dksX4_keep_15 7 rfl rfl)
theorem dX4_keep_362 : decode cX4_keep 362 = .ok (.iload_n 1, 1) := dk_27 (dk_at dksX4_keep_15 10 rfl rfl)
theorem dX4_keep_363 : decode cX4_keep 363 = .ok (.aload_n 0, 1) := dk_42 (dk_at dksX4_keep_15 11 rfl rfl)
theorem dX4_keep_364 : decode cX4_keep 364 = .ok (.getfield 84, 3) := dk_180 0 84 (dk_at dksX4_keep_15 12 rfl rfl)
theorem dX4_keep_367 : decode cX4_keep 367 = .ok (.bipush 64, 2) := dk_16 64 (dk_at dksX4_keep_15 15 rfl rfl)
theorem dX4_keep_369 : decode cX4_keep 369 = .ok (.iload_n 1, 1) := dk_27 (dk_at dksX4_keep_15 17 rfl rfl)
theorem dX4_keep_370 : decode cX4_keep 370 = .ok (.iadd, 1) := dk_96 (dk_at dksX4_keep_15 18 rfl rfl)
theorem dX4_keep_371 : decode cX4_keep 371 = .ok (.iaload, 1) := dk_46 (dk_at dksX4_keep_15 19 rfl rfl)
theorem dX4_keep_372 : decode cX4_keep 372 = .ok (.iastore, 1) := dk_79 (dk_at dksX4_keep_15 20 rfl rfl)
theorem dX4_keep_373 : decode cX4_keep 373 = .ok (.aload_n 0, 1) := dk_42 (dk_at dksX4_keep_15 21 rfl rfl)
theorem dX4_keep_374 : decode cX4_keep 374 = .ok (.getfield 87, 3) := dk_180 0 87 (dk_at dksX4_keep_16 0 rfl rfl)
theorem dX4_keep_377 : decode cX4_keep 377 = .ok (.iload_n 1, 1) := dk_27 (dk_at dksX4_keep_16 3 rfl rfl)
theorem dX4_keep_378 : decode cX4_keep 378 = .ok (.aload_n 0, 1) := dk_42 (dk_at dksX4_keep_16 4 rfl rfl)
theorem dX4_keep_379 : decode cX4_keep 379 = .ok (.getfield 87, 3) := dk_180 0 87 (dk_at dksX4_keep_16 5 rfl rfl)
theorem dX4_keep_382 : decode cX4_keep 382 = .ok (.bipush 64, 2) := dk_16 64 (dk_at dksX4_keep_16 8 rfl rfl)
theorem dX4_keep_384 : decode cX4_keep 384 = .ok (.iload_n 1, 1) := dk_27 (dk_at dksX4_keep_16 10 rfl rfl)
theorem dX4_keep_385 : decode cX4_keep 385 = .ok (.iadd, 1) := dk_96 (dk_at dksX4_keep_16 11 rfl rfl)
theorem dX4_keep_386 : decode cX4_keep 386 = .ok (.iaload, 1) := dk_46 (dk_at dksX4_keep_16 12 rfl rfl)
theorem dX4_keep_387 : decode cX4_keep 387 = .ok (.iastore, 1) := dk_79 (dk_at dksX4_keep_16 13 rfl rfl)
theorem dX4_keep_388 : decode cX4_keep 388 = .ok (.iinc 1 1, 3) := dk_132 1 1 (dk_at dksX4_keep_16 14 rfl rfl)
theorem dX4_keep_391 : decode cX4_keep 391 = .ok (.goto (-54), 3) := dk_167 255 202 (dk_at dksX4_keep_16 17 rfl rfl)
theorem dX4_keep_394 : decode cX4_keep 394 = .ok (.aload_n 0, 1) := dk_42 (dk_at dksX4_keep_16 20 rfl rfl)
theorem dX4_keep_395 : decode cX4_keep 395 = .ok (.iconst 0, 1) := dk_3 (dk_at dksX4_keep_16 21 rfl rfl)
theorem dX4_keep_396 : decode cX4_keep 396 = .ok (.putfield 211, 3) := dk_181 0 211 (dk_at dksX4_keep_17 0 rfl rfl)
theorem dX4_keep_399 : decode cX4_keep 399 = .ok (.aload_n 0, 1) := dk_42 (dk_at dksX4_keep_17 3 rfl rfl)
theorem dX4_keep_400 : decode cX4_keep 400 = .ok (.sipush 199, 3) := dk_17 0 199 (dk_at dksX4_keep_17 4 rfl rfl)
theorem dX4_keep_403 : decode cX4_keep 403 = .ok (.putfield 214, 3) := dk_181 0 214 (dk_at dksX4_keep_17 7 rfl rfl)
theorem dX4_keep_406 : decode cX4_keep 406 = .ok (.aload_n 0, 1) := dk_42 (dk_at dksX4_keep_17 10 rfl rfl)
theorem dX4_keep_407 : decode cX4_keep 407 = .ok (.iconst 0, 1) := dk_3 (dk_at dksX4_keep_17 11 rfl rfl)
theorem dX4_keep_408 : decode cX4_keep 408 = .ok (.putfield 217, 3) := dk_181 0 217 (dk_at dksX4_keep_17 12 rfl rfl)
theorem dX4_keep_411 : decode cX4_keep 411 = .ok (.return_, 1) := dk_177 (dk_at dksX4_keep_17 15 rfl rfl)
abbrev cX4_copies : ByteArray := prog_18_method_20_code
def yX4_copies : MethodName := ⟨RX4, "copies", "(II)V"⟩
def dkwX4_copies_2 : List UInt8 := [42, 180, 0, 63, 28, 42, 180, 0, 63, 27, 46, 79, 177]
abbrev dktX4_copies_2 : List UInt8 := dkwX4_copies_2 ++ []
def dkwX4_copies_1 : List UInt8 := [42, 180, 0, 57, 28, 42, 180, 0, 57, 27, 46, 79, 42, 180, 0, 60, 28, 42, 180, 0, 60, 27, 46, 79]
abbrev dktX4_copies_1 : List UInt8 := dkwX4_copies_1 ++ dktX4_copies_2
def dkwX4_copies_0 : List UInt8 := [42, 180, 0, 50, 28, 42, 180, 0, 50, 27, 51, 84, 42, 180, 0, 54, 28, 42, 180, 0, 54, 27, 46, 79]
abbrev dktX4_copies_0 : List UInt8 := dkwX4_copies_0 ++ dktX4_copies_1
theorem dksX4_copies_0 : cX4_copies.data.toList.drop 0 = dktX4_copies_0 := by decide +kernel
theorem dksX4_copies_1 : cX4_copies.data.toList.drop 24 = dktX4_copies_1 := dk_seg dksX4_copies_0 24 rfl rfl
theorem dksX4_copies_2 : cX4_copies.data.toList.drop 48 = dktX4_copies_2 := dk_seg dksX4_copies_1 24 rfl rfl
theorem dX4_copies_0 : decode cX4_copies 0 = .ok (.aload_n 0, 1) := dk_42 (dk_at dksX4_copies_0 0 rfl rfl)
theorem dX4_copies_1 : decode cX4_copies 1 = .ok (.getfield 50, 3) := dk_180 0 50 (dk_at dksX4_copies_0 1 rfl rfl)
theorem dX4_copies_4 : decode cX4_copies 4 = .ok (.iload_n 2, 1) := dk_28 (dk_at dksX4_copies_0 4 rfl rfl)
theorem dX4_copies_5 : decode cX4_copies 5 = .ok (.aload_n 0, 1) := dk_42 (dk_at dksX4_copies_0 5 rfl rfl)
theorem dX4_copies_6 : decode cX4_copies 6 = .ok (.getfield 50, 3) := dk_180 0 50 (dk_at dksX4_copies_0 6 rfl rfl)
theorem dX4_copies_9 : decode cX4_copies 9 = .ok (.iload_n 1, 1) := dk_27 (dk_at dksX4_copies_0 9 rfl rfl)
theorem dX4_copies_10 : decode cX4_copies 10 = .ok (.baload, 1) := dk_51 (dk_at dksX4_copies_0 10 rfl rfl)
theorem dX4_copies_11 : decode cX4_copies 11 = .ok (.bastore, 1) := dk_84 (dk_at dksX4_copies_0 11 rfl rfl)
theorem dX4_copies_12 : decode cX4_copies 12 = .ok (.aload_n 0, 1) := dk_42 (dk_at dksX4_copies_0 12 rfl rfl)
theorem dX4_copies_13 : decode cX4_copies 13 = .ok (.getfield 54, 3) := dk_180 0 54 (dk_at dksX4_copies_0 13 rfl rfl)
theorem dX4_copies_16 : decode cX4_copies 16 = .ok (.iload_n 2, 1) := dk_28 (dk_at dksX4_copies_0 16 rfl rfl)
theorem dX4_copies_17 : decode cX4_copies 17 = .ok (.aload_n 0, 1) := dk_42 (dk_at dksX4_copies_0 17 rfl rfl)
theorem dX4_copies_18 : decode cX4_copies 18 = .ok (.getfield 54, 3) := dk_180 0 54 (dk_at dksX4_copies_0 18 rfl rfl)
theorem dX4_copies_21 : decode cX4_copies 21 = .ok (.iload_n 1, 1) := dk_27 (dk_at dksX4_copies_0 21 rfl rfl)
theorem dX4_copies_22 : decode cX4_copies 22 = .ok (.iaload, 1) := dk_46 (dk_at dksX4_copies_0 22 rfl rfl)
theorem dX4_copies_23 : decode cX4_copies 23 = .ok (.iastore, 1) := dk_79 (dk_at dksX4_copies_0 23 rfl rfl)
theorem dX4_copies_24 : decode cX4_copies 24 = .ok (.aload_n 0, 1) := dk_42 (dk_at dksX4_copies_1 0 rfl rfl)
theorem dX4_copies_25 : decode cX4_copies 25 = .ok (.getfield 57, 3) := dk_180 0 57 (dk_at dksX4_copies_1 1 rfl rfl)
theorem dX4_copies_28 : decode cX4_copies 28 = .ok (.iload_n 2, 1) := dk_28 (dk_at dksX4_copies_1 4 rfl rfl)
theorem dX4_copies_29 : decode cX4_copies 29 = .ok (.aload_n 0, 1) := dk_42 (dk_at dksX4_copies_1 5 rfl rfl)
theorem dX4_copies_30 : decode cX4_copies 30 = .ok (.getfield 57, 3) := dk_180 0 57 (dk_at dksX4_copies_1 6 rfl rfl)
theorem dX4_copies_33 : decode cX4_copies 33 = .ok (.iload_n 1, 1) := dk_27 (dk_at dksX4_copies_1 9 rfl rfl)
theorem dX4_copies_34 : decode cX4_copies 34 = .ok (.iaload, 1) := dk_46 (dk_at dksX4_copies_1 10 rfl rfl)
theorem dX4_copies_35 : decode cX4_copies 35 = .ok (.iastore, 1) := dk_79 (dk_at dksX4_copies_1 11 rfl rfl)
theorem dX4_copies_36 : decode cX4_copies 36 = .ok (.aload_n 0, 1) := dk_42 (dk_at dksX4_copies_1 12 rfl rfl)
theorem dX4_copies_37 : decode cX4_copies 37 = .ok (.getfield 60, 3) := dk_180 0 60 (dk_at dksX4_copies_1 13 rfl rfl)
theorem dX4_copies_40 : decode cX4_copies 40 = .ok (.iload_n 2, 1) := dk_28 (dk_at dksX4_copies_1 16 rfl rfl)
theorem dX4_copies_41 : decode cX4_copies 41 = .ok (.aload_n 0, 1) := dk_42 (dk_at dksX4_copies_1 17 rfl rfl)
theorem dX4_copies_42 : decode cX4_copies 42 = .ok (.getfield 60, 3) := dk_180 0 60 (dk_at dksX4_copies_1 18 rfl rfl)
theorem dX4_copies_45 : decode cX4_copies 45 = .ok (.iload_n 1, 1) := dk_27 (dk_at dksX4_copies_1 21 rfl rfl)
theorem dX4_copies_46 : decode cX4_copies 46 = .ok (.iaload, 1) := dk_46 (dk_at dksX4_copies_1 22 rfl rfl)
theorem dX4_copies_47 : decode cX4_copies 47 = .ok (.iastore, 1) := dk_79 (dk_at dksX4_copies_1 23 rfl rfl)
theorem dX4_copies_48 : decode cX4_copies 48 = .ok (.aload_n 0, 1) := dk_42 (dk_at dksX4_copies_2 0 rfl rfl)
theorem dX4_copies_49 : decode cX4_copies 49 = .ok (.getfield 63, 3) := dk_180 0 63 (dk_at dksX4_copies_2 1 rfl rfl)
theorem dX4_copies_52 : decode cX4_copies 52 = .ok (.iload_n 2, 1) := dk_28 (dk_at dksX4_copies_2 4 rfl rfl)
theorem dX4_copies_53 : decode cX4_copies 53 = .ok (.aload_n 0, 1) := dk_42 (dk_at dksX4_copies_2 5 rfl rfl)
theorem dX4_copies_54 : decode cX4_copies 54 = .ok (.getfield 63, 3) := dk_180 0 63 (dk_at dksX4_copies_2 6 rfl rfl)
theorem dX4_copies_57 : decode cX4_copies 57 = .ok (.iload_n 1, 1) := dk_27 (dk_at dksX4_copies_2 9 rfl rfl)
theorem dX4_copies_58 : decode cX4_copies 58 = .ok (.iaload, 1) := dk_46 (dk_at dksX4_copies_2 10 rfl rfl)
theorem dX4_copies_59 : decode cX4_copies 59 = .ok (.iastore, 1) := dk_79 (dk_at dksX4_copies_2 11 rfl rfl)
theorem dX4_copies_60 : decode cX4_copies 60 = .ok (.return_, 1) := dk_177 (dk_at dksX4_copies_2 12 rfl rfl)
abbrev cX4_thrown : ByteArray := prog_18_method_2_code
def yX4_thrown : MethodName := ⟨RX4, "thrown", "()I"⟩
theorem dX4_thrown_0 : decode cX4_thrown 0 = .ok (.aload_n 0, 1) := by decide +kernel
theorem dX4_thrown_1 : decode cX4_thrown 1 = .ok (.getfield 124, 3) := by decide +kernel
theorem dX4_thrown_4 : decode cX4_thrown 4 = .ok (.ireturn, 1) := by decide +kernel
abbrev cX4_feed : ByteArray := prog_18_method_3_code
def yX4_feed : MethodName := ⟨RX4, "feed", "(IIIII)I"⟩
def dkwX4_feed_5 : List UInt8 := [16, 20, 96, 181, 0, 127, 42, 180, 0, 127, 172]
abbrev dktX4_feed_5 : List UInt8 := dkwX4_feed_5 ++ []
def dkwX4_feed_4 : List UInt8 := [21, 6, 7, 112, 104, 100, 122, 17, 0, 255, 126, 79, 132, 6, 1, 167, 255, 169, 42, 89, 180, 0, 127]
abbrev dktX4_feed_4 : List UInt8 := dkwX4_feed_4 ++ dktX4_feed_5
def dkwX4_feed_3 : List UInt8 := [167, 0, 5, 21, 5, 54, 7, 42, 180, 0, 7, 42, 180, 0, 127, 21, 6, 96, 21, 7, 16, 24, 16, 8]
abbrev dktX4_feed_3 : List UInt8 := dkwX4_feed_3 ++ dktX4_feed_4
def dkwX4_feed_2 : List UInt8 := [28, 167, 0, 28, 21, 6, 16, 12, 162, 0, 7, 29, 167, 0, 17, 21, 6, 16, 16, 162, 0, 8, 21, 4]
abbrev dktX4_feed_2 : List UInt8 := dkwX4_feed_2 ++ dktX4_feed_3
def dkwX4_feed_1 : List UInt8 := [21, 6, 16, 20, 162, 0, 86, 21, 6, 7, 162, 0, 7, 27, 167, 0, 39, 21, 6, 16, 8, 162, 0, 7]
abbrev dktX4_feed_1 : List UInt8 := dkwX4_feed_1 ++ dktX4_feed_2
def dkwX4_feed_0 : List UInt8 := [42, 3, 181, 0, 124, 42, 180, 0, 127, 16, 20, 96, 17, 3, 32, 164, 0, 5, 2, 172, 3, 54, 6]
abbrev dktX4_feed_0 : List UInt8 := dkwX4_feed_0 ++ dktX4_feed_1
theorem dksX4_feed_0 : cX4_feed.data.toList.drop 0 = dktX4_feed_0 := by decide +kernel
theorem dksX4_feed_1 : cX4_feed.data.toList.drop 23 = dktX4_feed_1 := dk_seg dksX4_feed_0 23 rfl rfl
theorem dksX4_feed_2 : cX4_feed.data.toList.drop 47 = dktX4_feed_2 := dk_seg dksX4_feed_1 24 rfl rfl
theorem dksX4_feed_3 : cX4_feed.data.toList.drop 71 = dktX4_feed_3 := dk_seg dksX4_feed_2 24 rfl rfl
theorem dksX4_feed_4 : cX4_feed.data.toList.drop 95 = dktX4_feed_4 := dk_seg dksX4_feed_3 24 rfl rfl
theorem dksX4_feed_5 : cX4_feed.data.toList.drop 118 = dktX4_feed_5 := dk_seg dksX4_feed_4 23 rfl rfl
theorem dX4_feed_0 : decode cX4_feed 0 = .ok (.aload_n 0, 1) := dk_42 (dk_at dksX4_feed_0 0 rfl rfl)
theorem dX4_feed_1 : decode cX4_feed 1 = .ok (.iconst 0, 1) := dk_3 (dk_at dksX4_feed_0 1 rfl rfl)
theorem dX4_feed_2 : decode cX4_feed 2 = .ok (.putfield 124, 3) := dk_181 0 124 (dk_at dksX4_feed_0 2 rfl rfl)
theorem dX4_feed_5 : decode cX4_feed 5 = .ok (.aload_n 0, 1) := dk_42 (dk_at dksX4_feed_0 5 rfl rfl)
theorem dX4_feed_6 : decode cX4_feed 6 = .ok (.getfield 127, 3) := dk_180 0 127 (dk_at dksX4_feed_0 6 rfl rfl)
theorem dX4_feed_9 : decode cX4_feed 9 = .ok (.bipush 20, 2) := dk_16 20 (dk_at dksX4_feed_0 9 rfl rfl)
theorem dX4_feed_11 : decode cX4_feed 11 = .ok (.iadd, 1) := dk_96 (dk_at dksX4_feed_0 11 rfl rfl)
theorem dX4_feed_12 : decode cX4_feed 12 = .ok (.sipush 800, 3) := dk_17 3 32 (dk_at dksX4_feed_0 12 rfl rfl)
theorem dX4_feed_15 : decode cX4_feed 15 = .ok (.if_icmp .le 5, 3) := dk_164 0 5 (dk_at dksX4_feed_0 15 rfl rfl)
theorem dX4_feed_18 : decode cX4_feed 18 = .ok (.iconst (-1), 1) := dk_2 (dk_at dksX4_feed_0 18 rfl rfl)
theorem dX4_feed_19 : decode cX4_feed 19 = .ok (.ireturn, 1) := dk_172 (dk_at dksX4_feed_0 19 rfl rfl)
theorem dX4_feed_20 : decode cX4_feed 20 = .ok (.iconst 0, 1) := dk_3 (dk_at dksX4_feed_0 20 rfl rfl)
theorem dX4_feed_21 : decode cX4_feed 21 = .ok (.istore 6, 2) := dk_54 6 (dk_at dksX4_feed_0 21 rfl rfl)
theorem dX4_feed_23 : decode cX4_feed 23 = .ok (.iload 6, 2) := dk_21 6 (dk_at dksX4_feed_1 0 rfl rfl)
theorem dX4_feed_25 : decode cX4_feed 25 = .ok (.bipush 20, 2) := dk_16 20 (dk_at dksX4_feed_1 2 rfl rfl)
theorem dX4_feed_27 : decode cX4_feed 27 = .ok (.if_icmp .ge 86, 3) := dk_162 0 86 (dk_at dksX4_feed_1 4 rfl rfl)
theorem dX4_feed_30 : decode cX4_feed 30 = .ok (.iload 6, 2) := dk_21 6 (dk_at dksX4_feed_1 7 rfl rfl)
theorem dX4_feed_32 : decode cX4_feed 32 = .ok (.iconst 4, 1) := dk_7 (dk_at dksX4_feed_1 9 rfl rfl)
theorem dX4_feed_33 : decode cX4_feed 33 = .ok (.if_icmp .ge 7, 3) := dk_162 0 7 (dk_at dksX4_feed_1 10 rfl rfl)
theorem dX4_feed_36 : decode cX4_feed 36 = .ok (.iload_n 1, 1) := dk_27 (dk_at dksX4_feed_1 13 rfl rfl)
theorem dX4_feed_37 : decode cX4_feed 37 = .ok (.goto 39, 3) := dk_167 0 39 (dk_at dksX4_feed_1 14 rfl rfl)
theorem dX4_feed_40 : decode cX4_feed 40 = .ok (.iload 6, 2) := dk_21 6 (dk_at dksX4_feed_1 17 rfl rfl)
theorem dX4_feed_42 : decode cX4_feed 42 = .ok (.bipush 8, 2) := dk_16 8 (dk_at dksX4_feed_1 19 rfl rfl)
theorem dX4_feed_44 : decode cX4_feed 44 = .ok (.if_icmp .ge 7, 3) := dk_162 0 7 (dk_at dksX4_feed_1 21 rfl rfl)
theorem dX4_feed_47 : decode cX4_feed 47 = .ok (.iload_n 2, 1) := dk_28 (dk_at dksX4_feed_2 0 rfl rfl)
theorem dX4_feed_48 : decode cX4_feed 48 = .ok (.goto 28, 3) := dk_167 0 28 (dk_at dksX4_feed_2 1 rfl rfl)
theorem dX4_feed_51 : decode cX4_feed 51 = .ok (.iload 6, 2) := dk_21 6 (dk_at dksX4_feed_2 4 rfl rfl)
theorem dX4_feed_53 : decode cX4_feed 53 = .ok (.bipush 12, 2) := dk_16 12 (dk_at dksX4_feed_2 6 rfl rfl)
theorem dX4_feed_55 : decode cX4_feed 55 = .ok (.if_icmp .ge 7, 3) := dk_162 0 7 (dk_at dksX4_feed_2 8 rfl rfl)
theorem dX4_feed_58 : decode cX4_feed 58 = .ok (.iload_n 3, 1) := dk_29 (dk_at dksX4_feed_2 11 rfl rfl)
theorem dX4_feed_59 : decode cX4_feed 59 = .ok (.goto 17, 3) := dk_167 0 17 (dk_at dksX4_feed_2 12 rfl rfl)
theorem dX4_feed_62 : decode cX4_feed 62 = .ok (.iload 6, 2) := dk_21 6 (dk_at dksX4_feed_2 15 rfl rfl)
theorem dX4_feed_64 : decode cX4_feed 64 = .ok (.bipush 16, 2) := dk_16 16 (dk_at dksX4_feed_2 17 rfl rfl)
theorem dX4_feed_66 : decode cX4_feed 66 = .ok (.if_icmp .ge 8, 3) := dk_162 0 8 (dk_at dksX4_feed_2 19 rfl rfl)
theorem dX4_feed_69 : decode cX4_feed 69 = .ok (.iload 4, 2) := dk_21 4 (dk_at dksX4_feed_2 22 rfl rfl)
theorem dX4_feed_71 : decode cX4_feed 71 = .ok (.goto 5, 3) := dk_167 0 5 (dk_at dksX4_feed_3 0 rfl rfl)
theorem dX4_feed_74 : decode cX4_feed 74 = .ok (.iload 5, 2) := dk_21 5 (dk_at dksX4_feed_3 3 rfl rfl)
theorem dX4_feed_76 : decode cX4_feed 76 = .ok (.istore 7, 2) := dk_54 7 (dk_at dksX4_feed_3 5 rfl rfl)
theorem dX4_feed_78 : decode cX4_feed 78 = .ok (.aload_n 0, 1) := dk_42 (dk_at dksX4_feed_3 7 rfl rfl)
theorem dX4_feed_79 : decode cX4_feed 79 = .ok (.getfield 7, 3) := dk_180 0 7 (dk_at dksX4_feed_3 8 rfl rfl)
theorem dX4_feed_82 : decode cX4_feed 82 = .ok (.aload_n 0, 1) := dk_42 (dk_at dksX4_feed_3 11 rfl rfl)
theorem dX4_feed_83 : decode cX4_feed 83 = .ok (.getfield 127, 3) := dk_180 0 127 (dk_at dksX4_feed_3 12 rfl rfl)
theorem dX4_feed_86 : decode cX4_feed 86 = .ok (.iload 6, 2) := dk_21 6 (dk_at dksX4_feed_3 15 rfl rfl)
theorem dX4_feed_88 : decode cX4_feed 88 = .ok (.iadd, 1) := dk_96 (dk_at dksX4_feed_3 17 rfl rfl)
theorem dX4_feed_89 : decode cX4_feed 89 = .ok (.iload 7, 2) := dk_21 7 (dk_at dksX4_feed_3 18 rfl rfl)
theorem dX4_feed_91 : decode cX4_feed 91 = .ok (.bipush 24, 2) := dk_16 24 (dk_at dksX4_feed_3 20 rfl rfl)
theorem dX4_feed_93 : decode cX4_feed 93 = .ok (.bipush 8, 2) := dk_16 8 (dk_at dksX4_feed_3 22 rfl rfl)
theorem dX4_feed_95 : decode cX4_feed 95 = .ok (.iload 6, 2) := dk_21 6 (dk_at dksX4_feed_4 0 rfl rfl)
theorem dX4_feed_97 : decode cX4_feed 97 = .ok (.iconst 4, 1) := dk_7 (dk_at dksX4_feed_4 2 rfl rfl)
theorem dX4_feed_98 : decode cX4_feed 98 = .ok (.irem, 1) := dk_112 (dk_at dksX4_feed_4 3 rfl rfl)
theorem dX4_feed_99 : decode cX4_feed 99 = .ok (.imul, 1) := dk_104 (dk_at dksX4_feed_4 4 rfl rfl)
theorem dX4_feed_100 : decode cX4_feed 100 = .ok (.isub, 1) := dk_100 (dk_at dksX4_feed_4 5 rfl rfl)
theorem dX4_feed_101 : decode cX4_feed 101 = .ok (.ishr, 1) := dk_122 (dk_at dksX4_feed_4 6 rfl rfl)
theorem dX4_feed_102 : decode cX4_feed 102 = .ok (.sipush 255, 3) := dk_17 0 255 (dk_at dksX4_feed_4 7 rfl rfl)
theorem dX4_feed_105 : decode cX4_feed 105 = .ok (.iand, 1) := dk_126 (dk_at dksX4_feed_4 10 rfl rfl)
theorem dX4_feed_106 : decode cX4_feed 106 = .ok (.iastore, 1) := dk_79 (dk_at dksX4_feed_4 11 rfl rfl)
theorem dX4_feed_107 : decode cX4_feed 107 = .ok (.iinc 6 1, 3) := dk_132 6 1 (dk_at dksX4_feed_4 12 rfl rfl)
theorem dX4_feed_110 : decode cX4_feed 110 = .ok (.goto (-87), 3) := dk_167 255 169 (dk_at dksX4_feed_4 15 rfl rfl)
theorem dX4_feed_113 : decode cX4_feed 113 = .ok (.aload_n 0, 1) := dk_42 (dk_at dksX4_feed_4 18 rfl rfl)
theorem dX4_feed_114 : decode cX4_feed 114 = .ok (.dup, 1) := dk_89 (dk_at dksX4_feed_4 19 rfl rfl)
theorem dX4_feed_115 : decode cX4_feed 115 = .ok (.getfield 127, 3) := dk_180 0 127 (dk_at dksX4_feed_4 20 rfl rfl)
theorem dX4_feed_118 : decode cX4_feed 118 = .ok (.bipush 20, 2) := dk_16 20 (dk_at dksX4_feed_5 0 rfl rfl)
theorem dX4_feed_120 : decode cX4_feed 120 = .ok (.iadd, 1) := dk_96 (dk_at dksX4_feed_5 2 rfl rfl)
theorem dX4_feed_121 : decode cX4_feed 121 = .ok (.putfield 127, 3) := dk_181 0 127 (dk_at dksX4_feed_5 3 rfl rfl)
theorem dX4_feed_124 : decode cX4_feed 124 = .ok (.aload_n 0, 1) := dk_42 (dk_at dksX4_feed_5 6 rfl rfl)
theorem dX4_feed_125 : decode cX4_feed 125 = .ok (.getfield 127, 3) := dk_180 0 127 (dk_at dksX4_feed_5 7 rfl rfl)
theorem dX4_feed_128 : decode cX4_feed 128 = .ok (.ireturn, 1) := dk_172 (dk_at dksX4_feed_5 10 rfl rfl)
abbrev cX4_tell : ByteArray := prog_18_method_39_code
def yX4_tell : MethodName := ⟨RX4, "tell", "(I)I"⟩
def dkwX4_tell_3 : List UInt8 := [172, 132, 2, 1, 167, 255, 237, 42, 182, 0, 121, 28, 172]
abbrev dktX4_tell_3 : List UInt8 := dkwX4_tell_3 ++ []
def dkwX4_tell_2 : List UInt8 := [182, 0, 118, 42, 182, 0, 171, 3, 61, 42, 180, 0, 142, 153, 0, 18, 42, 182, 1, 50, 154, 0, 5, 2]
abbrev dktX4_tell_2 : List UInt8 := dkwX4_tell_2 ++ dktX4_tell_3
def dkwX4_tell_1 : List UInt8 := [181, 0, 136, 42, 3, 181, 0, 127, 42, 3, 181, 0, 130, 42, 2, 181, 0, 16, 42, 3, 181, 0, 139, 42]
abbrev dktX4_tell_1 : List UInt8 := dkwX4_tell_1 ++ dktX4_tell_2
def dkwX4_tell_0 : List UInt8 := [42, 3, 181, 0, 124, 27, 155, 0, 11, 27, 42, 180, 0, 127, 164, 0, 6, 16, 254, 172, 42, 27]
abbrev dktX4_tell_0 : List UInt8 := dkwX4_tell_0 ++ dktX4_tell_1
theorem dksX4_tell_0 : cX4_tell.data.toList.drop 0 = dktX4_tell_0 := by decide +kernel
theorem dksX4_tell_1 : cX4_tell.data.toList.drop 22 = dktX4_tell_1 := dk_seg dksX4_tell_0 22 rfl rfl
theorem dksX4_tell_2 : cX4_tell.data.toList.drop 46 = dktX4_tell_2 := dk_seg dksX4_tell_1 24 rfl rfl
theorem dksX4_tell_3 : cX4_tell.data.toList.drop 70 = dktX4_tell_3 := dk_seg dksX4_tell_2 24 rfl rfl
theorem dX4_tell_0 : decode cX4_tell 0 = .ok (.aload_n 0, 1) := dk_42 (dk_at dksX4_tell_0 0 rfl rfl)
theorem dX4_tell_1 : decode cX4_tell 1 = .ok (.iconst 0, 1) := dk_3 (dk_at dksX4_tell_0 1 rfl rfl)
theorem dX4_tell_2 : decode cX4_tell 2 = .ok (.putfield 124, 3) := dk_181 0 124 (dk_at dksX4_tell_0 2 rfl rfl)
theorem dX4_tell_5 : decode cX4_tell 5 = .ok (.iload_n 1, 1) := dk_27 (dk_at dksX4_tell_0 5 rfl rfl)
theorem dX4_tell_6 : decode cX4_tell 6 = .ok (.ifCond .lt 11, 3) := dk_155 0 11 (dk_at dksX4_tell_0 6 rfl rfl)
theorem dX4_tell_9 : decode cX4_tell 9 = .ok (.iload_n 1, 1) := dk_27 (dk_at dksX4_tell_0 9 rfl rfl)
theorem dX4_tell_10 : decode cX4_tell 10 = .ok (.aload_n 0, 1) := dk_42 (dk_at dksX4_tell_0 10 rfl rfl)
theorem dX4_tell_11 : decode cX4_tell 11 = .ok (.getfield 127, 3) := dk_180 0 127 (dk_at dksX4_tell_0 11 rfl rfl)
theorem dX4_tell_14 : decode cX4_tell 14 = .ok (.if_icmp .le 6, 3) := dk_164 0 6 (dk_at dksX4_tell_0 14 rfl rfl)
theorem dX4_tell_17 : decode cX4_tell 17 = .ok (.bipush (-2), 2) := dk_16 254 (dk_at dksX4_tell_0 17 rfl rfl)
theorem dX4_tell_19 : decode cX4_tell 19 = .ok (.ireturn, 1) := dk_172 (dk_at dksX4_tell_0 19 rfl rfl)
theorem dX4_tell_20 : decode cX4_tell 20 = .ok (.aload_n 0, 1) := dk_42 (dk_at dksX4_tell_0 20 rfl rfl)
theorem dX4_tell_21 : decode cX4_tell 21 = .ok (.iload_n 1, 1) := dk_27 (dk_at dksX4_tell_0 21 rfl rfl)
theorem dX4_tell_22 : decode cX4_tell 22 = .ok (.putfield 136, 3) := dk_181 0 136 (dk_at dksX4_tell_1 0 rfl rfl)
theorem dX4_tell_25 : decode cX4_tell 25 = .ok (.aload_n 0, 1) := dk_42 (dk_at dksX4_tell_1 3 rfl rfl)
theorem dX4_tell_26 : decode cX4_tell 26 = .ok (.iconst 0, 1) := dk_3 (dk_at dksX4_tell_1 4 rfl rfl)
theorem dX4_tell_27 : decode cX4_tell 27 = .ok (.putfield 127, 3) := dk_181 0 127 (dk_at dksX4_tell_1 5 rfl rfl)
theorem dX4_tell_30 : decode cX4_tell 30 = .ok (.aload_n 0, 1) := dk_42 (dk_at dksX4_tell_1 8 rfl rfl)
theorem dX4_tell_31 : decode cX4_tell 31 = .ok (.iconst 0, 1) := dk_3 (dk_at dksX4_tell_1 9 rfl rfl)
theorem dX4_tell_32 : decode cX4_tell 32 = .ok (.putfield 130, 3) := dk_181 0 130 (dk_at dksX4_tell_1 10 rfl rfl)
theorem dX4_tell_35 : decode cX4_tell 35 = .ok (.aload_n 0, 1) := dk_42 (dk_at dksX4_tell_1 13 rfl rfl)
theorem dX4_tell_36 : decode cX4_tell 36 = .ok (.iconst (-1), 1) := dk_2 (dk_at dksX4_tell_1 14 rfl rfl)
theorem dX4_tell_37 : decode cX4_tell 37 = .ok (.putfield 16, 3) := dk_181 0 16 (dk_at dksX4_tell_1 15 rfl rfl)
theorem dX4_tell_40 : decode cX4_tell 40 = .ok (.aload_n 0, 1) := dk_42 (dk_at dksX4_tell_1 18 rfl rfl)
theorem dX4_tell_41 : decode cX4_tell 41 = .ok (.iconst 0, 1) := dk_3 (dk_at dksX4_tell_1 19 rfl rfl)
theorem dX4_tell_42 : decode cX4_tell 42 = .ok (.putfield 139, 3) := dk_181 0 139 (dk_at dksX4_tell_1 20 rfl rfl)
theorem dX4_tell_45 : decode cX4_tell 45 = .ok (.aload_n 0, 1) := dk_42 (dk_at dksX4_tell_1 23 rfl rfl)
theorem dX4_tell_46 : decode cX4_tell 46 = .ok (.invokevirtual 118, 3) := dk_182 0 118 (dk_at dksX4_tell_2 0 rfl rfl)
theorem dX4_tell_49 : decode cX4_tell 49 = .ok (.aload_n 0, 1) := dk_42 (dk_at dksX4_tell_2 3 rfl rfl)
theorem dX4_tell_50 : decode cX4_tell 50 = .ok (.invokevirtual 171, 3) := dk_182 0 171 (dk_at dksX4_tell_2 4 rfl rfl)
theorem dX4_tell_53 : decode cX4_tell 53 = .ok (.iconst 0, 1) := dk_3 (dk_at dksX4_tell_2 7 rfl rfl)
theorem dX4_tell_54 : decode cX4_tell 54 = .ok (.istore_n 2, 1) := dk_61 (dk_at dksX4_tell_2 8 rfl rfl)
theorem dX4_tell_55 : decode cX4_tell 55 = .ok (.aload_n 0, 1) := dk_42 (dk_at dksX4_tell_2 9 rfl rfl)
theorem dX4_tell_56 : decode cX4_tell 56 = .ok (.getfield 142, 3) := dk_180 0 142 (dk_at dksX4_tell_2 10 rfl rfl)
theorem dX4_tell_59 : decode cX4_tell 59 = .ok (.ifCond .eq 18, 3) := dk_153 0 18 (dk_at dksX4_tell_2 13 rfl rfl)
theorem dX4_tell_62 : decode cX4_tell 62 = .ok (.aload_n 0, 1) := dk_42 (dk_at dksX4_tell_2 16 rfl rfl)
theorem dX4_tell_63 : decode cX4_tell 63 = .ok (.invokevirtual 306, 3) := dk_182 1 50 (dk_at dksX4_tell_2 17 rfl rfl)
theorem dX4_tell_66 : decode cX4_tell 66 = .ok (.ifCond .ne 5, 3) := dk_154 0 5 (dk_at dksX4_tell_2 20 rfl rfl)
theorem dX4_tell_69 : decode cX4_tell 69 = .ok (.iconst (-1), 1) := dk_2 (dk_at dksX4_tell_2 23 rfl rfl)
theorem dX4_tell_70 : decode cX4_tell 70 = .ok (.ireturn, 1) := dk_172 (dk_at dksX4_tell_3 0 rfl rfl)
theorem dX4_tell_71 : decode cX4_tell 71 = .ok (.iinc 2 1, 3) := dk_132 2 1 (dk_at dksX4_tell_3 1 rfl rfl)
theorem dX4_tell_74 : decode cX4_tell 74 = .ok (.goto (-19), 3) := dk_167 255 237 (dk_at dksX4_tell_3 4 rfl rfl)
theorem dX4_tell_77 : decode cX4_tell 77 = .ok (.aload_n 0, 1) := dk_42 (dk_at dksX4_tell_3 7 rfl rfl)
theorem dX4_tell_78 : decode cX4_tell 78 = .ok (.invokevirtual 121, 3) := dk_182 0 121 (dk_at dksX4_tell_3 8 rfl rfl)
theorem dX4_tell_81 : decode cX4_tell 81 = .ok (.iload_n 2, 1) := dk_28 (dk_at dksX4_tell_3 11 rfl rfl)
theorem dX4_tell_82 : decode cX4_tell 82 = .ok (.ireturn, 1) := dk_172 (dk_at dksX4_tell_3 12 rfl rfl)
abbrev cX4_take : ByteArray := prog_18_method_11_code
def yX4_take : MethodName := ⟨RX4, "take", "()V"⟩
def dkwX4_take_12 : List UInt8 := [42, 182, 0, 162, 177]
abbrev dktX4_take_12 : List UInt8 := dkwX4_take_12 ++ []
def dkwX4_take_11 : List UInt8 := [180, 0, 139, 46, 96, 16, 48, 100, 181, 0, 153, 42, 89, 180, 0, 139, 4, 96, 181, 0, 139, 167, 255, 194]
abbrev dktX4_take_11 : List UInt8 := dkwX4_take_11 ++ dktX4_take_12
def dkwX4_take_10 : List UInt8 := [164, 0, 10, 42, 180, 0, 153, 167, 0, 23, 16, 10, 42, 180, 0, 153, 104, 42, 180, 0, 7, 42]
abbrev dktX4_take_10 : List UInt8 := dkwX4_take_10 ++ dktX4_take_11
def dkwX4_take_9 : List UInt8 := [181, 0, 153, 42, 42, 180, 0, 139, 182, 0, 159, 153, 0, 61, 42, 42, 180, 0, 153, 17, 3, 231]
abbrev dktX4_take_9 : List UInt8 := dkwX4_take_9 ++ dktX4_take_10
def dkwX4_take_8 : List UInt8 := [181, 0, 153, 167, 0, 93, 42, 42, 180, 0, 139, 182, 0, 159, 153, 0, 78, 42, 6, 181, 0, 142, 42, 3]
abbrev dktX4_take_8 : List UInt8 := dkwX4_take_8 ++ dktX4_take_9
def dkwX4_take_7 : List UInt8 := [181, 0, 142, 42, 180, 0, 142, 5, 160, 0, 112, 42, 42, 42, 180, 0, 133, 42, 180, 0, 139, 182, 0, 156]
abbrev dktX4_take_7 : List UInt8 := dkwX4_take_7 ++ dktX4_take_8
def dkwX4_take_6 : List UInt8 := [167, 0, 23, 42, 180, 0, 139, 42, 180, 0, 133, 100, 16, 6, 164, 0, 8, 16, 6, 167, 0, 4, 5]
abbrev dktX4_take_6 : List UInt8 := dkwX4_take_6 ++ dktX4_take_7
def dkwX4_take_5 : List UInt8 := [42, 180, 0, 133, 42, 180, 0, 139, 182, 0, 149, 181, 0, 153, 42, 42, 180, 0, 153, 155, 0, 7, 4]
abbrev dktX4_take_5 : List UInt8 := dkwX4_take_5 ++ dktX4_take_6
def dkwX4_take_4 : List UInt8 := [180, 0, 139, 182, 0, 145, 153, 0, 16, 42, 89, 180, 0, 139, 4, 96, 181, 0, 139, 167, 255, 235, 42, 42]
abbrev dktX4_take_4 : List UInt8 := dkwX4_take_4 ++ dktX4_take_5
def dkwX4_take_3 : List UInt8 := [160, 0, 11, 42, 3, 181, 0, 142, 167, 0, 206, 42, 42, 180, 0, 139, 182, 0, 145, 153, 0, 105, 42, 42]
abbrev dktX4_take_3 : List UInt8 := dkwX4_take_3 ++ dktX4_take_4
def dkwX4_take_2 : List UInt8 := [181, 0, 139, 167, 255, 207, 42, 42, 180, 0, 139, 181, 0, 133, 42, 180, 0, 139, 42, 180, 0, 136]
abbrev dktX4_take_2 : List UInt8 := dkwX4_take_2 ++ dktX4_take_3
def dkwX4_take_1 : List UInt8 := [159, 0, 17, 42, 180, 0, 7, 42, 180, 0, 139, 46, 16, 32, 160, 0, 16, 42, 89, 180, 0, 139, 4, 96]
abbrev dktX4_take_1 : List UInt8 := dkwX4_take_1 ++ dktX4_take_2
def dkwX4_take_0 : List UInt8 := [42, 180, 0, 139, 42, 180, 0, 136, 162, 0, 44, 42, 180, 0, 7, 42, 180, 0, 139, 46, 16, 10]
abbrev dktX4_take_0 : List UInt8 := dkwX4_take_0 ++ dktX4_take_1
theorem dksX4_take_0 : cX4_take.data.toList.drop 0 = dktX4_take_0 := by decide +kernel
theorem dksX4_take_1 : cX4_take.data.toList.drop 22 = dktX4_take_1 := dk_seg dksX4_take_0 22 rfl rfl
theorem dksX4_take_2 : cX4_take.data.toList.drop 46 = dktX4_take_2 := dk_seg dksX4_take_1 24 rfl rfl
theorem dksX4_take_3 : cX4_take.data.toList.drop 68 = dktX4_take_3 := dk_seg dksX4_take_2 22 rfl rfl
theorem dksX4_take_4 : cX4_take.data.toList.drop 92 = dktX4_take_4 := dk_seg dksX4_take_3 24 rfl rfl
theorem dksX4_take_5 : cX4_take.data.toList.drop 116 = dktX4_take_5 := dk_seg dksX4_take_4 24 rfl rfl
theorem dksX4_take_6 : cX4_take.data.toList.drop 139 = dktX4_take_6 := dk_seg dksX4_take_5 23 rfl rfl
theorem dksX4_take_7 : cX4_take.data.toList.drop 162 = dktX4_take_7 := dk_seg dksX4_take_6 23 rfl rfl
theorem dksX4_take_8 : cX4_take.data.toList.drop 186 = dktX4_take_8 := dk_seg dksX4_take_7 24 rfl rfl
theorem dksX4_take_9 : cX4_take.data.toList.drop 210 = dktX4_take_9 := dk_seg dksX4_take_8 24 rfl rfl
theorem dksX4_take_10 : cX4_take.data.toList.drop 232 = dktX4_take_10 := dk_seg dksX4_take_9 22 rfl rfl
theorem dksX4_take_11 : cX4_take.data.toList.drop 254 = dktX4_take_11 := dk_seg dksX4_take_10 22 rfl rfl
theorem dksX4_take_12 : cX4_take.data.toList.drop 278 = dktX4_take_12 := dk_seg dksX4_take_11 24 rfl rfl
theorem dX4_take_0 : decode cX4_take 0 = .ok (.aload_n 0, 1) := dk_42 (dk_at dksX4_take_0 0 rfl rfl)
theorem dX4_take_1 : decode cX4_take 1 = .ok (.getfield 139, 3) := dk_180 0 139 (dk_at dksX4_take_0 1 rfl rfl)
theorem dX4_take_4 : decode cX4_take 4 = .ok (.aload_n 0, 1) := dk_42 (dk_at dksX4_take_0 4 rfl rfl)
theorem dX4_take_5 : decode cX4_take 5 = .ok (.getfield 136, 3) := dk_180 0 136 (dk_at dksX4_take_0 5 rfl rfl)
theorem dX4_take_8 : decode cX4_take 8 = .ok (.if_icmp .ge 44, 3) := dk_162 0 44 (dk_at dksX4_take_0 8 rfl rfl)
theorem dX4_take_11 : decode cX4_take 11 = .ok (.aload_n 0, 1) := dk_42 (dk_at dksX4_take_0 11 rfl rfl)
theorem dX4_take_12 : decode cX4_take 12 = .ok (.getfield 7, 3) := dk_180 0 7 (dk_at dksX4_take_0 12 rfl rfl)
theorem dX4_take_15 : decode cX4_take 15 = .ok (.aload_n 0, 1) := dk_42 (dk_at dksX4_take_0 15 rfl rfl)
theorem dX4_take_16 : decode cX4_take 16 = .ok (.getfield 139, 3) := dk_180 0 139 (dk_at dksX4_take_0 16 rfl rfl)
theorem dX4_take_19 : decode cX4_take 19 = .ok (.iaload, 1) := dk_46 (dk_at dksX4_take_0 19 rfl rfl)
theorem dX4_take_20 : decode cX4_take 20 = .ok (.bipush 10, 2) := dk_16 10 (dk_at dksX4_take_0 20 rfl rfl)
theorem dX4_take_22 : decode cX4_take 22 = .ok (.if_icmp .eq 17, 3) := dk_159 0 17 (dk_at dksX4_take_1 0 rfl rfl)
theorem dX4_take_25 : decode cX4_take 25 = .ok (.aload_n 0, 1) := dk_42 (dk_at dksX4_take_1 3 rfl rfl)
theorem dX4_take_26 : decode cX4_take 26 = .ok (.getfield 7, 3) := dk_180 0 7 (dk_at dksX4_take_1 4 rfl rfl)
theorem dX4_take_29 : decode cX4_take 29 = .ok (.aload_n 0, 1) := dk_42 (dk_at dksX4_take_1 7 rfl rfl)
theorem dX4_take_30 : decode cX4_take 30 = .ok (.getfield 139, 3) := dk_180 0 139 (dk_at dksX4_take_1 8 rfl rfl)
theorem dX4_take_33 : decode cX4_take 33 = .ok (.iaload, 1) := dk_46 (dk_at dksX4_take_1 11 rfl rfl)
theorem dX4_take_34 : decode cX4_take 34 = .ok (.bipush 32, 2) := dk_16 32 (dk_at dksX4_take_1 12 rfl rfl)
theorem dX4_take_36 : decode cX4_take 36 = .ok (.if_icmp .ne 16, 3) := dk_160 0 16 (dk_at dksX4_take_1 14 rfl rfl)
theorem dX4_take_39 : decode cX4_take 39 = .ok (.aload_n 0, 1) := dk_42 (dk_at dksX4_take_1 17 rfl rfl)
theorem dX4_take_40 : decode cX4_take 40 = .ok (.dup, 1) := dk_89 (dk_at dksX4_take_1 18 rfl rfl)
theorem dX4_take_41 : decode cX4_take 41 = .ok (.getfield 139, 3) := dk_180 0 139 (dk_at dksX4_take_1 19 rfl rfl)
theorem dX4_take_44 : decode cX4_take 44 = .ok (.iconst 1, 1) := dk_4 (dk_at dksX4_take_1 22 rfl rfl)
theorem dX4_take_45 : decode cX4_take 45 = .ok (.iadd, 1) := dk_96 (dk_at dksX4_take_1 23 rfl rfl)
theorem dX4_take_46 : decode cX4_take 46 = .ok (.putfield 139, 3) := dk_181 0 139 (dk_at dksX4_take_2 0 rfl rfl)
theorem dX4_take_49 : decode cX4_take 49 = .ok (.goto (-49), 3) := dk_167 255 207 (dk_at dksX4_take_2 3 rfl rfl)
theorem dX4_take_52 : decode cX4_take 52 = .ok (.aload_n 0, 1) := dk_42 (dk_at dksX4_take_2 6 rfl rfl)
theorem dX4_take_53 : decode cX4_take 53 = .ok (.aload_n 0, 1) := dk_42 (dk_at dksX4_take_2 7 rfl rfl)
theorem dX4_take_54 : decode cX4_take 54 = .ok (.getfield 139, 3) := dk_180 0 139 (dk_at dksX4_take_2 8 rfl rfl)
theorem dX4_take_57 : decode cX4_take 57 = .ok (.putfield 133, 3) := dk_181 0 133 (dk_at dksX4_take_2 11 rfl rfl)
theorem dX4_take_60 : decode cX4_take 60 = .ok (.aload_n 0, 1) := dk_42 (dk_at dksX4_take_2 14 rfl rfl)
theorem dX4_take_61 : decode cX4_take 61 = .ok (.getfield 139, 3) := dk_180 0 139 (dk_at dksX4_take_2 15 rfl rfl)
theorem dX4_take_64 : decode cX4_take 64 = .ok (.aload_n 0, 1) := dk_42 (dk_at dksX4_take_2 18 rfl rfl)
theorem dX4_take_65 : decode cX4_take 65 = .ok (.getfield 136, 3) := dk_180 0 136 (dk_at dksX4_take_2 19 rfl rfl)
theorem dX4_take_68 : decode cX4_take 68 = .ok (.if_icmp .ne 11, 3) := dk_160 0 11 (dk_at dksX4_take_3 0 rfl rfl)
theorem dX4_take_71 : decode cX4_take 71 = .ok (.aload_n 0, 1) := dk_42 (dk_at dksX4_take_3 3 rfl rfl)
theorem dX4_take_72 : decode cX4_take 72 = .ok (.iconst 0, 1) := dk_3 (dk_at dksX4_take_3 4 rfl rfl)
theorem dX4_take_73 : decode cX4_take 73 = .ok (.putfield 142, 3) := dk_181 0 142 (dk_at dksX4_take_3 5 rfl rfl)
theorem dX4_take_76 : decode cX4_take 76 = .ok (.goto 206, 3) := dk_167 0 206 (dk_at dksX4_take_3 8 rfl rfl)
theorem dX4_take_79 : decode cX4_take 79 = .ok (.aload_n 0, 1) := dk_42 (dk_at dksX4_take_3 11 rfl rfl)
theorem dX4_take_80 : decode cX4_take 80 = .ok (.aload_n 0, 1) := dk_42 (dk_at dksX4_take_3 12 rfl rfl)
theorem dX4_take_81 : decode cX4_take 81 = .ok (.getfield 139, 3) := dk_180 0 139 (dk_at dksX4_take_3 13 rfl rfl)
theorem dX4_take_84 : decode cX4_take 84 = .ok (.invokevirtual 145, 3) := dk_182 0 145 (dk_at dksX4_take_3 16 rfl rfl)
theorem dX4_take_87 : decode cX4_take 87 = .ok (.ifCond .eq 105, 3) := dk_153 0 105 (dk_at dksX4_take_3 19 rfl rfl)
theorem dX4_take_90 : decode cX4_take 90 = .ok (.aload_n 0, 1) := dk_42 (dk_at dksX4_take_3 22 rfl rfl)
theorem dX4_take_91 : decode cX4_take 91 = .ok (.aload_n 0, 1) := dk_42 (dk_at dksX4_take_3 23 rfl rfl)
theorem dX4_take_92 : decode cX4_take 92 = .ok (.getfield 139, 3) := dk_180 0 139 (dk_at dksX4_take_4 0 rfl rfl)
theorem dX4_take_95 : decode cX4_take 95 = .ok (.invokevirtual 145, 3) := dk_182 0 145 (dk_at dksX4_take_4 3 rfl rfl)
theorem dX4_take_98 : decode cX4_take 98 = .ok (.ifCond .eq 16, 3) := dk_153 0 16 (dk_at dksX4_take_4 6 rfl rfl)
theorem dX4_take_101 : decode cX4_take 101 = .ok (.aload_n 0, 1) := dk_42 (dk_at dksX4_take_4 9 rfl rfl)
theorem dX4_take_102 : decode cX4_take 102 = .ok (.dup, 1) := dk_89 (dk_at dksX4_take_4 10 rfl rfl)
theorem dX4_take_103 : decode cX4_take 103 = .ok (.getfield 139, 3) := dk_180 0 139 (dk_at dksX4_take_4 11 rfl rfl)
theorem dX4_take_106 : decode cX4_take 106 = .ok (.iconst 1, 1) := dk_4 (dk_at dksX4_take_4 14 rfl rfl)
theorem dX4_take_107 : decode cX4_take 107 = .ok (.iadd, 1) := dk_96 (dk_at dksX4_take_4 15 rfl rfl)
theorem dX4_take_108 : decode cX4_take 108 = .ok (.putfield 139, 3) := dk_181 0 139 (dk_at dksX4_take_4 16 rfl rfl)
theorem dX4_take_111 : decode cX4_take 111 = .ok (.goto (-21), 3) := dk_167 255 235 (dk_at dksX4_take_4 19 rfl rfl)
theorem dX4_take_114 : decode cX4_take 114 = .ok (.aload_n 0, 1) := dk_42 (dk_at dksX4_take_4 22 rfl rfl)
theorem dX4_take_115 : decode cX4_take 115 = .ok (.aload_n 0, 1) := dk_42 (dk_at dksX4_take_4 23 rfl rfl)
theorem dX4_take_116 : decode cX4_take 116 = .ok (.aload_n 0, 1) := dk_42 (dk_at dksX4_take_5 0 rfl rfl)
theorem dX4_take_117 : decode cX4_take 117 = .ok (.getfield 133, 3) := dk_180 0 133 (dk_at dksX4_take_5 1 rfl rfl)
theorem dX4_take_120 : decode cX4_take 120 = .ok (.aload_n 0, 1) := dk_42 (dk_at dksX4_take_5 4 rfl rfl)
theorem dX4_take_121 : decode cX4_take 121 = .ok (.getfield 139, 3) := dk_180 0 139 (dk_at dksX4_take_5 5 rfl rfl)
theorem dX4_take_124 : decode cX4_take 124 = .ok (.invokevirtual 149, 3) := dk_182 0 149 (dk_at dksX4_take_5 8 rfl rfl)
theorem dX4_take_127 : decode cX4_take 127 = .ok (.putfield 153, 3) := dk_181 0 153 (dk_at dksX4_take_5 11 rfl rfl)
theorem dX4_take_130 : decode cX4_take 130 = .ok (.aload_n 0, 1) := dk_42 (dk_at dksX4_take_5 14 rfl rfl)
theorem dX4_take_131 : decode cX4_take 131 = .ok (.aload_n 0, 1) := dk_42 (dk_at dksX4_take_5 15 rfl rfl)
theorem dX4_take_132 : decode cX4_take 132 = .ok (.getfield 153, 3) := dk_180 0 153 (dk_at dksX4_take_5 16 rfl rfl)
theorem dX4_take_135 : decode cX4_take 135 = .ok (.ifCond .lt 7, 3) := dk_155 0 7 (dk_at dksX4_take_5 19 rfl rfl)
theorem dX4_take_138 : decode cX4_take 138 = .ok (.iconst 1, 1) := dk_4 (dk_at dksX4_take_5 22 rfl rfl)
theorem dX4_take_139 : decode cX4_take 139 = .ok (.goto 23, 3) := dk_167 0 23 (dk_at dksX4_take_6 0 rfl rfl)
theorem dX4_take_142 : decode cX4_take 142 = .ok (.aload_n 0, 1) := dk_42 (dk_at dksX4_take_6 3 rfl rfl)
theorem dX4_take_143 : decode cX4_take 143 = .ok (.getfield 139, 3) := dk_180 0 139 (dk_at dksX4_take_6 4 rfl rfl)
theorem dX4_take_146 : decode cX4_take 146 = .ok (.aload_n 0, 1) := dk_42 (dk_at dksX4_take_6 7 rfl rfl)
theorem dX4_take_147 : decode cX4_take 147 = .ok (.getfield 133, 3) := dk_180 0 133 (dk_at dksX4_take_6 8 rfl rfl)
theorem dX4_take_150 : decode cX4_take 150 = .ok (.isub, 1) := dk_100 (dk_at dksX4_take_6 11 rfl rfl)
theorem dX4_take_151 : decode cX4_take 151 = .ok (.bipush 6, 2) := dk_16 6 (dk_at dksX4_take_6 12 rfl rfl)
theorem dX4_take_153 : decode cX4_take 153 = .ok (.if_icmp .le 8, 3) := dk_164 0 8 (dk_at dksX4_take_6 14 rfl rfl)
theorem dX4_take_156 : decode cX4_take 156 = .ok (.bipush 6, 2) := dk_16 6 (dk_at dksX4_take_6 17 rfl rfl)
theorem dX4_take_158 : decode cX4_take 158 = .ok (.goto 4, 3) := dk_167 0 4 (dk_at dksX4_take_6 19 rfl rfl)
theorem dX4_take_161 : decode cX4_take 161 = .ok (.iconst 2, 1) := dk_5 (dk_at dksX4_take_6 22 rfl rfl)
theorem dX4_take_162 : decode cX4_take 162 = .ok (.putfield 142, 3) := dk_181 0 142 (dk_at dksX4_take_7 0 rfl rfl)
theorem dX4_take_165 : decode cX4_take 165 = .ok (.aload_n 0, 1) := dk_42 (dk_at dksX4_take_7 3 rfl rfl)
theorem dX4_take_166 : decode cX4_take 166 = .ok (.getfield 142, 3) := dk_180 0 142 (dk_at dksX4_take_7 4 rfl rfl)
theorem dX4_take_169 : decode cX4_take 169 = .ok (.iconst 2, 1) := dk_5 (dk_at dksX4_take_7 7 rfl rfl)
theorem dX4_take_170 : decode cX4_take 170 = .ok (.if_icmp .ne 112, 3) := dk_160 0 112 (dk_at dksX4_take_7 8 rfl rfl)
theorem dX4_take_173 : decode cX4_take 173 = .ok (.aload_n 0, 1) := dk_42 (dk_at dksX4_take_7 11 rfl rfl)
theorem dX4_take_174 : decode cX4_take 174 = .ok (.aload_n 0, 1) := dk_42 (dk_at dksX4_take_7 12 rfl rfl)
theorem dX4_take_175 : decode cX4_take 175 = .ok (.aload_n 0, 1) := dk_42 (dk_at dksX4_take_7 13 rfl rfl)
theorem dX4_take_176 : decode cX4_take 176 = .ok (.getfield 133, 3) := dk_180 0 133 (dk_at dksX4_take_7 14 rfl rfl)
theorem dX4_take_179 : decode cX4_take 179 = .ok (.aload_n 0, 1) := dk_42 (dk_at dksX4_take_7 17 rfl rfl)
theorem dX4_take_180 : decode cX4_take 180 = .ok (.getfield 139, 3) := dk_180 0 139 (dk_at dksX4_take_7 18 rfl rfl)
theorem dX4_take_183 : decode cX4_take 183 = .ok (.invokevirtual 156, 3) := dk_182 0 156 (dk_at dksX4_take_7 21 rfl rfl)
theorem dX4_take_186 : decode cX4_take 186 = .ok (.putfield 153, 3) := dk_181 0 153 (dk_at dksX4_take_8 0 rfl rfl)
theorem dX4_take_189 : decode cX4_take 189 = .ok (.goto 93, 3) := dk_167 0 93 (dk_at dksX4_take_8 3 rfl rfl)
theorem dX4_take_192 : decode cX4_take 192 = .ok (.aload_n 0, 1) := dk_42 (dk_at dksX4_take_8 6 rfl rfl)
theorem dX4_take_193 : decode cX4_take 193 = .ok (.aload_n 0, 1) := dk_42 (dk_at dksX4_take_8 7 rfl rfl)
theorem dX4_take_194 : decode cX4_take 194 = .ok (.getfield 139, 3) := dk_180 0 139 (dk_at dksX4_take_8 8 rfl rfl)
theorem dX4_take_197 : decode cX4_take 197 = .ok (.invokevirtual 159, 3) := dk_182 0 159 (dk_at dksX4_take_8 11 rfl rfl)
theorem dX4_take_200 : decode cX4_take 200 = .ok (.ifCond .eq 78, 3) := dk_153 0 78 (dk_at dksX4_take_8 14 rfl rfl)
theorem dX4_take_203 : decode cX4_take 203 = .ok (.aload_n 0, 1) := dk_42 (dk_at dksX4_take_8 17 rfl rfl)
theorem dX4_take_204 : decode cX4_take 204 = .ok (.iconst 3, 1) := dk_6 (dk_at dksX4_take_8 18 rfl rfl)
theorem dX4_take_205 : decode cX4_take 205 = .ok (.putfield 142, 3) := dk_181 0 142 (dk_at dksX4_take_8 19 rfl rfl)
theorem dX4_take_208 : decode cX4_take 208 = .ok (.aload_n 0, 1) := dk_42 (dk_at dksX4_take_8 22 rfl rfl)
theorem dX4_take_209 : decode cX4_take 209 = .ok (.iconst 0, 1) := dk_3 (dk_at dksX4_take_8 23 rfl rfl)
theorem dX4_take_210 : decode cX4_take 210 = .ok (.putfield 153, 3) := dk_181 0 153 (dk_at dksX4_take_9 0 rfl rfl)
theorem dX4_take_213 : decode cX4_take 213 = .ok (.aload_n 0, 1) := dk_42 (dk_at dksX4_take_9 3 rfl rfl)
theorem dX4_take_214 : decode cX4_take 214 = .ok (.aload_n 0, 1) := dk_42 (dk_at dksX4_take_9 4 rfl rfl)
theorem dX4_take_215 : decode cX4_take 215 = .ok (.getfield 139, 3) := dk_180 0 139 (dk_at dksX4_take_9 5 rfl rfl)
theorem dX4_take_218 : decode cX4_take 218 = .ok (.invokevirtual 159, 3) := dk_182 0 159 (dk_at dksX4_take_9 8 rfl rfl)
theorem dX4_take_221 : decode cX4_take 221 = .ok (.ifCond .eq 61, 3) := dk_153 0 61 (dk_at dksX4_take_9 11 rfl rfl)
theorem dX4_take_224 : decode cX4_take 224 = .ok (.aload_n 0, 1) := dk_42 (dk_at dksX4_take_9 14 rfl rfl)
theorem dX4_take_225 : decode cX4_take 225 = .ok (.aload_n 0, 1) := dk_42 (dk_at dksX4_take_9 15 rfl rfl)
theorem dX4_take_226 : decode cX4_take 226 = .ok (.getfield 153, 3) := dk_180 0 153 (dk_at dksX4_take_9 16 rfl rfl)
theorem dX4_take_229 : decode cX4_take 229 = .ok (.sipush 999, 3) := dk_17 3 231 (dk_at dksX4_take_9 19 rfl rfl)
theorem dX4_take_232 : decode cX4_take 232 = .ok (.if_icmp .le 10, 3) := dk_164 0 10 (dk_at dksX4_take_10 0 rfl rfl)
theorem dX4_take_235 : decode cX4_take 235 = .ok (.aload_n 0, 1) := dk_42 (dk_at dksX4_take_10 3 rfl rfl)
theorem dX4_take_236 : decode cX4_take 236 = .ok (.getfield 153, 3) := dk_180 0 153 (dk_at dksX4_take_10 4 rfl rfl)
theorem dX4_take_239 : decode cX4_take 239 = .ok (.goto 23, 3) := dk_167 0 23 (dk_at dksX4_take_10 7 rfl rfl)
theorem dX4_take_242 : decode cX4_take 242 = .ok (.bipush 10, 2) := dk_16 10 (dk_at dksX4_take_10 10 rfl rfl)
theorem dX4_take_244 : decode cX4_take 244 = .ok (.aload_n 0, 1) := dk_42 (dk_at dksX4_take_10 12 rfl rfl)
theorem dX4_take_245 : decode cX4_take 245 = .ok (.getfield 153, 3) := dk_180 0 153 (dk_at dksX4_take_10 13 rfl rfl)
theorem dX4_take_248 : decode cX4_take 248 = .ok (.imul, 1) := dk_104 (dk_at dksX4_take_10 16 rfl rfl)
theorem dX4_take_249 : decode cX4_take 249 = .ok (.aload_n 0, 1) := dk_42 (dk_at dksX4_take_10 17 rfl rfl)
theorem dX4_take_250 : decode cX4_take 250 = .ok (.getfield 7, 3) := dk_180 0 7 (dk_at dksX4_take_10 18 rfl rfl)
theorem dX4_take_253 : decode cX4_take 253 = .ok (.aload_n 0, 1) := dk_42 (dk_at dksX4_take_10 21 rfl rfl)
theorem dX4_take_254 : decode cX4_take 254 = .ok (.getfield 139, 3) := dk_180 0 139 (dk_at dksX4_take_11 0 rfl rfl)
theorem dX4_take_257 : decode cX4_take 257 = .ok (.iaload, 1) := dk_46 (dk_at dksX4_take_11 3 rfl rfl)
theorem dX4_take_258 : decode cX4_take 258 = .ok (.iadd, 1) := dk_96 (dk_at dksX4_take_11 4 rfl rfl)
theorem dX4_take_259 : decode cX4_take 259 = .ok (.bipush 48, 2) := dk_16 48 (dk_at dksX4_take_11 5 rfl rfl)
theorem dX4_take_261 : decode cX4_take 261 = .ok (.isub, 1) := dk_100 (dk_at dksX4_take_11 7 rfl rfl)
theorem dX4_take_262 : decode cX4_take 262 = .ok (.putfield 153, 3) := dk_181 0 153 (dk_at dksX4_take_11 8 rfl rfl)
theorem dX4_take_265 : decode cX4_take 265 = .ok (.aload_n 0, 1) := dk_42 (dk_at dksX4_take_11 11 rfl rfl)
theorem dX4_take_266 : decode cX4_take 266 = .ok (.dup, 1) := dk_89 (dk_at dksX4_take_11 12 rfl rfl)
theorem dX4_take_267 : decode cX4_take 267 = .ok (.getfield 139, 3) := dk_180 0 139 (dk_at dksX4_take_11 13 rfl rfl)
theorem dX4_take_270 : decode cX4_take 270 = .ok (.iconst 1, 1) := dk_4 (dk_at dksX4_take_11 16 rfl rfl)
theorem dX4_take_271 : decode cX4_take 271 = .ok (.iadd, 1) := dk_96 (dk_at dksX4_take_11 17 rfl rfl)
theorem dX4_take_272 : decode cX4_take 272 = .ok (.putfield 139, 3) := dk_181 0 139 (dk_at dksX4_take_11 18 rfl rfl)
theorem dX4_take_275 : decode cX4_take 275 = .ok (.goto (-62), 3) := dk_167 255 194 (dk_at dksX4_take_11 21 rfl rfl)
theorem dX4_take_278 : decode cX4_take 278 = .ok (.aload_n 0, 1) := dk_42 (dk_at dksX4_take_12 0 rfl rfl)
theorem dX4_take_279 : decode cX4_take 279 = .ok (.invokevirtual 162, 3) := dk_182 0 162 (dk_at dksX4_take_12 1 rfl rfl)
theorem dX4_take_282 : decode cX4_take 282 = .ok (.return_, 1) := dk_177 (dk_at dksX4_take_12 4 rfl rfl)
abbrev cX4_isSmall : ByteArray := prog_18_method_9_code
def yX4_isSmall : MethodName := ⟨RX4, "isSmall", "(I)Z"⟩
def dkwX4_isSmall_1 : List UInt8 := [46, 16, 122, 163, 0, 7, 4, 167, 0, 4, 3, 172]
abbrev dktX4_isSmall_1 : List UInt8 := dkwX4_isSmall_1 ++ []
def dkwX4_isSmall_0 : List UInt8 := [27, 42, 180, 0, 136, 162, 0, 29, 42, 180, 0, 7, 27, 46, 16, 97, 161, 0, 18, 42, 180, 0, 7, 27]
abbrev dktX4_isSmall_0 : List UInt8 := dkwX4_isSmall_0 ++ dktX4_isSmall_1
theorem dksX4_isSmall_0 : cX4_isSmall.data.toList.drop 0 = dktX4_isSmall_0 := by decide +kernel
theorem dksX4_isSmall_1 : cX4_isSmall.data.toList.drop 24 = dktX4_isSmall_1 := dk_seg dksX4_isSmall_0 24 rfl rfl
theorem dX4_isSmall_0 : decode cX4_isSmall 0 = .ok (.iload_n 1, 1) := dk_27 (dk_at dksX4_isSmall_0 0 rfl rfl)
theorem dX4_isSmall_1 : decode cX4_isSmall 1 = .ok (.aload_n 0, 1) := dk_42 (dk_at dksX4_isSmall_0 1 rfl rfl)
theorem dX4_isSmall_2 : decode cX4_isSmall 2 = .ok (.getfield 136, 3) := dk_180 0 136 (dk_at dksX4_isSmall_0 2 rfl rfl)
theorem dX4_isSmall_5 : decode cX4_isSmall 5 = .ok (.if_icmp .ge 29, 3) := dk_162 0 29 (dk_at dksX4_isSmall_0 5 rfl rfl)
theorem dX4_isSmall_8 : decode cX4_isSmall 8 = .ok (.aload_n 0, 1) := dk_42 (dk_at dksX4_isSmall_0 8 rfl rfl)
theorem dX4_isSmall_9 : decode cX4_isSmall 9 = .ok (.getfield 7, 3) := dk_180 0 7 (dk_at dksX4_isSmall_0 9 rfl rfl)
theorem dX4_isSmall_12 : decode cX4_isSmall 12 = .ok (.iload_n 1, 1) := dk_27 (dk_at dksX4_isSmall_0 12 rfl rfl)
theorem dX4_isSmall_13 : decode cX4_isSmall 13 = .ok (.iaload, 1) := dk_46 (dk_at dksX4_isSmall_0 13 rfl rfl)
theorem dX4_isSmall_14 : decode cX4_isSmall 14 = .ok (.bipush 97, 2) := dk_16 97 (dk_at dksX4_isSmall_0 14 rfl rfl)
theorem dX4_isSmall_16 : decode cX4_isSmall 16 = .ok (.if_icmp .lt 18, 3) := dk_161 0 18 (dk_at dksX4_isSmall_0 16 rfl rfl)
theorem dX4_isSmall_19 : decode cX4_isSmall 19 = .ok (.aload_n 0, 1) := dk_42 (dk_at dksX4_isSmall_0 19 rfl rfl)
theorem dX4_isSmall_20 : decode cX4_isSmall 20 = .ok (.getfield 7, 3) := dk_180 0 7 (dk_at dksX4_isSmall_0 20 rfl rfl)
theorem dX4_isSmall_23 : decode cX4_isSmall 23 = .ok (.iload_n 1, 1) := dk_27 (dk_at dksX4_isSmall_0 23 rfl rfl)
theorem dX4_isSmall_24 : decode cX4_isSmall 24 = .ok (.iaload, 1) := dk_46 (dk_at dksX4_isSmall_1 0 rfl rfl)
theorem dX4_isSmall_25 : decode cX4_isSmall 25 = .ok (.bipush 122, 2) := dk_16 122 (dk_at dksX4_isSmall_1 1 rfl rfl)
theorem dX4_isSmall_27 : decode cX4_isSmall 27 = .ok (.if_icmp .gt 7, 3) := dk_163 0 7 (dk_at dksX4_isSmall_1 3 rfl rfl)
theorem dX4_isSmall_30 : decode cX4_isSmall 30 = .ok (.iconst 1, 1) := dk_4 (dk_at dksX4_isSmall_1 6 rfl rfl)
theorem dX4_isSmall_31 : decode cX4_isSmall 31 = .ok (.goto 4, 3) := dk_167 0 4 (dk_at dksX4_isSmall_1 7 rfl rfl)
theorem dX4_isSmall_34 : decode cX4_isSmall 34 = .ok (.iconst 0, 1) := dk_3 (dk_at dksX4_isSmall_1 10 rfl rfl)
theorem dX4_isSmall_35 : decode cX4_isSmall 35 = .ok (.ireturn, 1) := dk_172 (dk_at dksX4_isSmall_1 11 rfl rfl)
abbrev cX4_wordAt : ByteArray := prog_18_method_8_code
def yX4_wordAt : MethodName := ⟨RX4, "wordAt", "(II)I"⟩
def dkwX4_wordAt_5 : List UInt8 := [96, 96, 54, 4, 132, 3, 1, 167, 255, 138, 2, 172]
abbrev dktX4_wordAt_5 : List UInt8 := dkwX4_wordAt_5 ++ []
def dkwX4_wordAt_4 : List UInt8 := [167, 0, 4, 3, 54, 6, 132, 7, 1, 167, 255, 212, 21, 6, 153, 0, 5, 29, 172, 21, 4, 21, 5, 4]
abbrev dktX4_wordAt_4 : List UInt8 := dkwX4_wordAt_4 ++ dktX4_wordAt_5
def dkwX4_wordAt_3 : List UInt8 := [180, 0, 13, 21, 4, 21, 7, 96, 46, 42, 180, 0, 7, 27, 21, 7, 96, 46, 160, 0, 7, 4]
abbrev dktX4_wordAt_3 : List UInt8 := dkwX4_wordAt_3 ++ dktX4_wordAt_4
def dkwX4_wordAt_2 : List UInt8 := [167, 0, 4, 3, 54, 6, 3, 54, 7, 21, 7, 21, 5, 162, 0, 43, 21, 6, 153, 0, 38, 42]
abbrev dktX4_wordAt_2 : List UInt8 := dkwX4_wordAt_2 ++ dktX4_wordAt_3
def dkwX4_wordAt_1 : List UInt8 := [21, 5, 96, 46, 16, 32, 159, 0, 9, 132, 5, 1, 167, 255, 238, 21, 5, 28, 27, 100, 160, 0, 7, 4]
abbrev dktX4_wordAt_1 : List UInt8 := dkwX4_wordAt_1 ++ dktX4_wordAt_2
def dkwX4_wordAt_0 : List UInt8 := [3, 62, 3, 54, 4, 21, 4, 42, 180, 0, 13, 190, 162, 0, 114, 3, 54, 5, 42, 180, 0, 13, 21, 4]
abbrev dktX4_wordAt_0 : List UInt8 := dkwX4_wordAt_0 ++ dktX4_wordAt_1
theorem dksX4_wordAt_0 : cX4_wordAt.data.toList.drop 0 = dktX4_wordAt_0 := by decide +kernel
theorem dksX4_wordAt_1 : cX4_wordAt.data.toList.drop 24 = dktX4_wordAt_1 := dk_seg dksX4_wordAt_0 24 rfl rfl
theorem dksX4_wordAt_2 : cX4_wordAt.data.toList.drop 48 = dktX4_wordAt_2 := dk_seg dksX4_wordAt_1 24 rfl rfl
theorem dksX4_wordAt_3 : cX4_wordAt.data.toList.drop 70 = dktX4_wordAt_3 := dk_seg dksX4_wordAt_2 22 rfl rfl
theorem dksX4_wordAt_4 : cX4_wordAt.data.toList.drop 92 = dktX4_wordAt_4 := dk_seg dksX4_wordAt_3 22 rfl rfl
theorem dksX4_wordAt_5 : cX4_wordAt.data.toList.drop 116 = dktX4_wordAt_5 := dk_seg dksX4_wordAt_4 24 rfl rfl
theorem dX4_wordAt_0 : decode cX4_wordAt 0 = .ok (.iconst 0, 1) := dk_3 (dk_at dksX4_wordAt_0 0 rfl rfl)
theorem dX4_wordAt_1 : decode cX4_wordAt 1 = .ok (.istore_n 3, 1) := dk_62 (dk_at dksX4_wordAt_0 1 rfl rfl)
theorem dX4_wordAt_2 : decode cX4_wordAt 2 = .ok (.iconst 0, 1) := dk_3 (dk_at dksX4_wordAt_0 2 rfl rfl)
theorem dX4_wordAt_3 : decode cX4_wordAt 3 = .ok (.istore 4, 2) := dk_54 4 (dk_at dksX4_wordAt_0 3 rfl rfl)
theorem dX4_wordAt_5 : decode cX4_wordAt 5 = .ok (.iload 4, 2) := dk_21 4 (dk_at dksX4_wordAt_0 5 rfl rfl)
theorem dX4_wordAt_7 : decode cX4_wordAt 7 = .ok (.aload_n 0, 1) := dk_42 (dk_at dksX4_wordAt_0 7 rfl rfl)
theorem dX4_wordAt_8 : decode cX4_wordAt 8 = .ok (.getfield 13, 3) := dk_180 0 13 (dk_at dksX4_wordAt_0 8 rfl rfl)
theorem dX4_wordAt_11 : decode cX4_wordAt 11 = .ok (.arraylength, 1) := dk_190 (dk_at dksX4_wordAt_0 11 rfl rfl)
theorem dX4_wordAt_12 : decode cX4_wordAt 12 = .ok (.if_icmp .ge 114, 3) := dk_162 0 114 (dk_at dksX4_wordAt_0 12 rfl rfl)
theorem dX4_wordAt_15 : decode cX4_wordAt 15 = .ok (.iconst 0, 1) := dk_3 (dk_at dksX4_wordAt_0 15 rfl rfl)
theorem dX4_wordAt_16 : decode cX4_wordAt 16 = .ok (.istore 5, 2) := dk_54 5 (dk_at dksX4_wordAt_0 16 rfl rfl)
theorem dX4_wordAt_18 : decode cX4_wordAt 18 = .ok (.aload_n 0, 1) := dk_42 (dk_at dksX4_wordAt_0 18 rfl rfl)
theorem dX4_wordAt_19 : decode cX4_wordAt 19 = .ok (.getfield 13, 3) := dk_180 0 13 (dk_at dksX4_wordAt_0 19 rfl rfl)
theorem dX4_wordAt_22 : decode cX4_wordAt 22 = .ok (.iload 4, 2) := dk_21 4 (dk_at dksX4_wordAt_0 22 rfl rfl)
theorem dX4_wordAt_24 : decode cX4_wordAt 24 = .ok (.iload 5, 2) := dk_21 5 (dk_at dksX4_wordAt_1 0 rfl rfl)
theorem dX4_wordAt_26 : decode cX4_wordAt 26 = .ok (.iadd, 1) := dk_96 (dk_at dksX4_wordAt_1 2 rfl rfl)
theorem dX4_wordAt_27 : decode cX4_wordAt 27 = .ok (.iaload, 1) := dk_46 (dk_at dksX4_wordAt_1 3 rfl rfl)
theorem dX4_wordAt_28 : decode cX4_wordAt 28 = .ok (.bipush 32, 2) := dk_16 32 (dk_at dksX4_wordAt_1 4 rfl rfl)
theorem dX4_wordAt_30 : decode cX4_wordAt 30 = .ok (.if_icmp .eq 9, 3) := dk_159 0 9 (dk_at dksX4_wordAt_1 6 rfl rfl)
theorem dX4_wordAt_33 : decode cX4_wordAt 33 = .ok (.iinc 5 1, 3) := dk_132 5 1 (dk_at dksX4_wordAt_1 9 rfl rfl)
theorem dX4_wordAt_36 : decode cX4_wordAt 36 = .ok (.goto (-18), 3) := dk_167 255 238 (dk_at dksX4_wordAt_1 12 rfl rfl)
theorem dX4_wordAt_39 : decode cX4_wordAt 39 = .ok (.iload 5, 2) := dk_21 5 (dk_at dksX4_wordAt_1 15 rfl rfl)
theorem dX4_wordAt_41 : decode cX4_wordAt 41 = .ok (.iload_n 2, 1) := dk_28 (dk_at dksX4_wordAt_1 17 rfl rfl)
theorem dX4_wordAt_42 : decode cX4_wordAt 42 = .ok (.iload_n 1, 1) := dk_27 (dk_at dksX4_wordAt_1 18 rfl rfl)
theorem dX4_wordAt_43 : decode cX4_wordAt 43 = .ok (.isub, 1) := dk_100 (dk_at dksX4_wordAt_1 19 rfl rfl)
theorem dX4_wordAt_44 : decode cX4_wordAt 44 = .ok (.if_icmp .ne 7, 3) := dk_160 0 7 (dk_at dksX4_wordAt_1 20 rfl rfl)
theorem dX4_wordAt_47 : decode cX4_wordAt 47 = .ok (.iconst 1, 1) := dk_4 (dk_at dksX4_wordAt_1 23 rfl rfl)
theorem dX4_wordAt_48 : decode cX4_wordAt 48 = .ok (.goto 4, 3) := dk_167 0 4 (dk_at dksX4_wordAt_2 0 rfl rfl)
theorem dX4_wordAt_51 : decode cX4_wordAt 51 = .ok (.iconst 0, 1) := dk_3 (dk_at dksX4_wordAt_2 3 rfl rfl)
theorem dX4_wordAt_52 : decode cX4_wordAt 52 = .ok (.istore 6, 2) := dk_54 6 (dk_at dksX4_wordAt_2 4 rfl rfl)
theorem dX4_wordAt_54 : decode cX4_wordAt 54 = .ok (.iconst 0, 1) := dk_3 (dk_at dksX4_wordAt_2 6 rfl rfl)
theorem dX4_wordAt_55 : decode cX4_wordAt 55 = .ok (.istore 7, 2) := dk_54 7 (dk_at dksX4_wordAt_2 7 rfl rfl)
theorem dX4_wordAt_57 : decode cX4_wordAt 57 = .ok (.iload 7, 2) := dk_21 7 (dk_at dksX4_wordAt_2 9 rfl rfl)
theorem dX4_wordAt_59 : decode cX4_wordAt 59 = .ok (.iload 5, 2) := dk_21 5 (dk_at dksX4_wordAt_2 11 rfl rfl)
theorem dX4_wordAt_61 : decode cX4_wordAt 61 = .ok (.if_icmp .ge 43, 3) := dk_162 0 43 (dk_at dksX4_wordAt_2 13 rfl rfl)
theorem dX4_wordAt_64 : decode cX4_wordAt 64 = .ok (.iload 6, 2) := dk_21 6 (dk_at dksX4_wordAt_2 16 rfl rfl)
theorem dX4_wordAt_66 : decode cX4_wordAt 66 = .ok (.ifCond .eq 38, 3) := dk_153 0 38 (dk_at dksX4_wordAt_2 18 rfl rfl)
theorem dX4_wordAt_69 : decode cX4_wordAt 69 = .ok (.aload_n 0, 1) := dk_42 (dk_at dksX4_wordAt_2 21 rfl rfl)
theorem dX4_wordAt_70 : decode cX4_wordAt 70 = .ok (.getfield 13, 3) := dk_180 0 13 (dk_at dksX4_wordAt_3 0 rfl rfl)
theorem dX4_wordAt_73 : decode cX4_wordAt 73 = .ok (.iload 4, 2) := dk_21 4 (dk_at dksX4_wordAt_3 3 rfl rfl)
theorem dX4_wordAt_75 : decode cX4_wordAt 75 = .ok (.iload 7, 2) := dk_21 7 (dk_at dksX4_wordAt_3 5 rfl rfl)
theorem dX4_wordAt_77 : decode cX4_wordAt 77 = .ok (.iadd, 1) := dk_96 (dk_at dksX4_wordAt_3 7 rfl rfl)
theorem dX4_wordAt_78 : decode cX4_wordAt 78 = .ok (.iaload, 1) := dk_46 (dk_at dksX4_wordAt_3 8 rfl rfl)
theorem dX4_wordAt_79 : decode cX4_wordAt 79 = .ok (.aload_n 0, 1) := dk_42 (dk_at dksX4_wordAt_3 9 rfl rfl)
theorem dX4_wordAt_80 : decode cX4_wordAt 80 = .ok (.getfield 7, 3) := dk_180 0 7 (dk_at dksX4_wordAt_3 10 rfl rfl)
theorem dX4_wordAt_83 : decode cX4_wordAt 83 = .ok (.iload_n 1, 1) := dk_27 (dk_at dksX4_wordAt_3 13 rfl rfl)
theorem dX4_wordAt_84 : decode cX4_wordAt 84 = .ok (.iload 7, 2) := dk_21 7 (dk_at dksX4_wordAt_3 14 rfl rfl)
theorem dX4_wordAt_86 : decode cX4_wordAt 86 = .ok (.iadd, 1) := dk_96 (dk_at dksX4_wordAt_3 16 rfl rfl)
theorem dX4_wordAt_87 : decode cX4_wordAt 87 = .ok (.iaload, 1) := dk_46 (dk_at dksX4_wordAt_3 17 rfl rfl)
theorem dX4_wordAt_88 : decode cX4_wordAt 88 = .ok (.if_icmp .ne 7, 3) := dk_160 0 7 (dk_at dksX4_wordAt_3 18 rfl rfl)
theorem dX4_wordAt_91 : decode cX4_wordAt 91 = .ok (.iconst 1, 1) := dk_4 (dk_at dksX4_wordAt_3 21 rfl rfl)
theorem dX4_wordAt_92 : decode cX4_wordAt 92 = .ok (.goto 4, 3) := dk_167 0 4 (dk_at dksX4_wordAt_4 0 rfl rfl)
theorem dX4_wordAt_95 : decode cX4_wordAt 95 = .ok (.iconst 0, 1) := dk_3 (dk_at dksX4_wordAt_4 3 rfl rfl)
theorem dX4_wordAt_96 : decode cX4_wordAt 96 = .ok (.istore 6, 2) := dk_54 6 (dk_at dksX4_wordAt_4 4 rfl rfl)
theorem dX4_wordAt_98 : decode cX4_wordAt 98 = .ok (.iinc 7 1, 3) := dk_132 7 1 (dk_at dksX4_wordAt_4 6 rfl rfl)
theorem dX4_wordAt_101 : decode cX4_wordAt 101 = .ok (.goto (-44), 3) := dk_167 255 212 (dk_at dksX4_wordAt_4 9 rfl rfl)
theorem dX4_wordAt_104 : decode cX4_wordAt 104 = .ok (.iload 6, 2) := dk_21 6 (dk_at dksX4_wordAt_4 12 rfl rfl)
theorem dX4_wordAt_106 : decode cX4_wordAt 106 = .ok (.ifCond .eq 5, 3) := dk_153 0 5 (dk_at dksX4_wordAt_4 14 rfl rfl)
theorem dX4_wordAt_109 : decode cX4_wordAt 109 = .ok (.iload_n 3, 1) := dk_29 (dk_at dksX4_wordAt_4 17 rfl rfl)
theorem dX4_wordAt_110 : decode cX4_wordAt 110 = .ok (.ireturn, 1) := dk_172 (dk_at dksX4_wordAt_4 18 rfl rfl)
theorem dX4_wordAt_111 : decode cX4_wordAt 111 = .ok (.iload 4, 2) := dk_21 4 (dk_at dksX4_wordAt_4 19 rfl rfl)
theorem dX4_wordAt_113 : decode cX4_wordAt 113 = .ok (.iload 5, 2) := dk_21 5 (dk_at dksX4_wordAt_4 21 rfl rfl)
theorem dX4_wordAt_115 : decode cX4_wordAt 115 = .ok (.iconst 1, 1) := dk_4 (dk_at dksX4_wordAt_4 23 rfl rfl)
theorem dX4_wordAt_116 : decode cX4_wordAt 116 = .ok (.iadd, 1) := dk_96 (dk_at dksX4_wordAt_5 0 rfl rfl)
theorem dX4_wordAt_117 : decode cX4_wordAt 117 = .ok (.iadd, 1) := dk_96 (dk_at dksX4_wordAt_5 1 rfl rfl)
theorem dX4_wordAt_118 : decode cX4_wordAt 118 = .ok (.istore 4, 2) := dk_54 4 (dk_at dksX4_wordAt_5 2 rfl rfl)
theorem dX4_wordAt_120 : decode cX4_wordAt 120 = .ok (.iinc 3 1, 3) := dk_132 3 1 (dk_at dksX4_wordAt_5 4 rfl rfl)
theorem dX4_wordAt_123 : decode cX4_wordAt 123 = .ok (.goto (-118), 3) := dk_167 255 138 (dk_at dksX4_wordAt_5 7 rfl rfl)
theorem dX4_wordAt_126 : decode cX4_wordAt 126 = .ok (.iconst (-1), 1) := dk_2 (dk_at dksX4_wordAt_5 10 rfl rfl)
theorem dX4_wordAt_127 : decode cX4_wordAt 127 = .ok (.ireturn, 1) := dk_172 (dk_at dksX4_wordAt_5 11 rfl rfl)
abbrev cX4_packed : ByteArray := prog_18_method_13_code
def yX4_packed : MethodName := ⟨RX4, "packed", "(II)I"⟩
def dkwX4_packed_1 : List UInt8 := [180, 0, 7, 21, 4, 46, 16, 96, 100, 167, 0, 4, 3, 128, 62, 132, 4, 1, 167, 255, 219, 29, 172]
abbrev dktX4_packed_1 : List UInt8 := dkwX4_packed_1 ++ []
def dkwX4_packed_0 : List UInt8 := [3, 62, 27, 54, 4, 21, 4, 27, 16, 6, 96, 162, 0, 34, 29, 8, 120, 21, 4, 28, 162, 0, 16, 42]
abbrev dktX4_packed_0 : List UInt8 := dkwX4_packed_0 ++ dktX4_packed_1
theorem dksX4_packed_0 : cX4_packed.data.toList.drop 0 = dktX4_packed_0 := by decide +kernel
theorem dksX4_packed_1 : cX4_packed.data.toList.drop 24 = dktX4_packed_1 := dk_seg dksX4_packed_0 24 rfl rfl
theorem dX4_packed_0 : decode cX4_packed 0 = .ok (.iconst 0, 1) := dk_3 (dk_at dksX4_packed_0 0 rfl rfl)
theorem dX4_packed_1 : decode cX4_packed 1 = .ok (.istore_n 3, 1) := dk_62 (dk_at dksX4_packed_0 1 rfl rfl)
theorem dX4_packed_2 : decode cX4_packed 2 = .ok (.iload_n 1, 1) := dk_27 (dk_at dksX4_packed_0 2 rfl rfl)
theorem dX4_packed_3 : decode cX4_packed 3 = .ok (.istore 4, 2) := dk_54 4 (dk_at dksX4_packed_0 3 rfl rfl)
theorem dX4_packed_5 : decode cX4_packed 5 = .ok (.iload 4, 2) := dk_21 4 (dk_at dksX4_packed_0 5 rfl rfl)
theorem dX4_packed_7 : decode cX4_packed 7 = .ok (.iload_n 1, 1) := dk_27 (dk_at dksX4_packed_0 7 rfl rfl)
theorem dX4_packed_8 : decode cX4_packed 8 = .ok (.bipush 6, 2) := dk_16 6 (dk_at dksX4_packed_0 8 rfl rfl)
theorem dX4_packed_10 : decode cX4_packed 10 = .ok (.iadd, 1) := dk_96 (dk_at dksX4_packed_0 10 rfl rfl)
theorem dX4_packed_11 : decode cX4_packed 11 = .ok (.if_icmp .ge 34, 3) := dk_162 0 34 (dk_at dksX4_packed_0 11 rfl rfl)
theorem dX4_packed_14 : decode cX4_packed 14 = .ok (.iload_n 3, 1) := dk_29 (dk_at dksX4_packed_0 14 rfl rfl)
theorem dX4_packed_15 : decode cX4_packed 15 = .ok (.iconst 5, 1) := dk_8 (dk_at dksX4_packed_0 15 rfl rfl)
theorem dX4_packed_16 : decode cX4_packed 16 = .ok (.ishl, 1) := dk_120 (dk_at dksX4_packed_0 16 rfl rfl)
theorem dX4_packed_17 : decode cX4_packed 17 = .ok (.iload 4, 2) := dk_21 4 (dk_at dksX4_packed_0 17 rfl rfl)
theorem dX4_packed_19 : decode cX4_packed 19 = .ok (.iload_n 2, 1) := dk_28 (dk_at dksX4_packed_0 19 rfl rfl)
theorem dX4_packed_20 : decode cX4_packed 20 = .ok (.if_icmp .ge 16, 3) := dk_162 0 16 (dk_at dksX4_packed_0 20 rfl rfl)
theorem dX4_packed_23 : decode cX4_packed 23 = .ok (.aload_n 0, 1) := dk_42 (dk_at dksX4_packed_0 23 rfl rfl)
theorem dX4_packed_24 : decode cX4_packed 24 = .ok (.getfield 7, 3) := dk_180 0 7 (dk_at dksX4_packed_1 0 rfl rfl)
theorem dX4_packed_27 : decode cX4_packed 27 = .ok (.iload 4, 2) := dk_21 4 (dk_at dksX4_packed_1 3 rfl rfl)
theorem dX4_packed_29 : decode cX4_packed 29 = .ok (.iaload, 1) := dk_46 (dk_at dksX4_packed_1 5 rfl rfl)
theorem dX4_packed_30 : decode cX4_packed 30 = .ok (.bipush 96, 2) := dk_16 96 (dk_at dksX4_packed_1 6 rfl rfl)
theorem dX4_packed_32 : decode cX4_packed 32 = .ok (.isub, 1) := dk_100 (dk_at dksX4_packed_1 8 rfl rfl)
theorem dX4_packed_33 : decode cX4_packed 33 = .ok (.goto 4, 3) := dk_167 0 4 (dk_at dksX4_packed_1 9 rfl rfl)
theorem dX4_packed_36 : decode cX4_packed 36 = .ok (.iconst 0, 1) := dk_3 (dk_at dksX4_packed_1 12 rfl rfl)
theorem dX4_packed_37 : decode cX4_packed 37 = .ok (.ior, 1) := dk_128 (dk_at dksX4_packed_1 13 rfl rfl)
theorem dX4_packed_38 : decode cX4_packed 38 = .ok (.istore_n 3, 1) := dk_62 (dk_at dksX4_packed_1 14 rfl rfl)
theorem dX4_packed_39 : decode cX4_packed 39 = .ok (.iinc 4 1, 3) := dk_132 4 1 (dk_at dksX4_packed_1 15 rfl rfl)
theorem dX4_packed_42 : decode cX4_packed 42 = .ok (.goto (-37), 3) := dk_167 255 219 (dk_at dksX4_packed_1 18 rfl rfl)
theorem dX4_packed_45 : decode cX4_packed 45 = .ok (.iload_n 3, 1) := dk_29 (dk_at dksX4_packed_1 21 rfl rfl)
theorem dX4_packed_46 : decode cX4_packed 46 = .ok (.ireturn, 1) := dk_172 (dk_at dksX4_packed_1 22 rfl rfl)
abbrev cX4_isDigit : ByteArray := prog_18_method_10_code
def yX4_isDigit : MethodName := ⟨RX4, "isDigit", "(I)Z"⟩
def dkwX4_isDigit_1 : List UInt8 := [46, 16, 57, 163, 0, 7, 4, 167, 0, 4, 3, 172]
abbrev dktX4_isDigit_1 : List UInt8 := dkwX4_isDigit_1 ++ []
def dkwX4_isDigit_0 : List UInt8 := [27, 42, 180, 0, 136, 162, 0, 29, 42, 180, 0, 7, 27, 46, 16, 48, 161, 0, 18, 42, 180, 0, 7, 27]
abbrev dktX4_isDigit_0 : List UInt8 := dkwX4_isDigit_0 ++ dktX4_isDigit_1
theorem dksX4_isDigit_0 : cX4_isDigit.data.toList.drop 0 = dktX4_isDigit_0 := by decide +kernel
theorem dksX4_isDigit_1 : cX4_isDigit.data.toList.drop 24 = dktX4_isDigit_1 := dk_seg dksX4_isDigit_0 24 rfl rfl
theorem dX4_isDigit_0 : decode cX4_isDigit 0 = .ok (.iload_n 1, 1) := dk_27 (dk_at dksX4_isDigit_0 0 rfl rfl)
theorem dX4_isDigit_1 : decode cX4_isDigit 1 = .ok (.aload_n 0, 1) := dk_42 (dk_at dksX4_isDigit_0 1 rfl rfl)
theorem dX4_isDigit_2 : decode cX4_isDigit 2 = .ok (.getfield 136, 3) := dk_180 0 136 (dk_at dksX4_isDigit_0 2 rfl rfl)
theorem dX4_isDigit_5 : decode cX4_isDigit 5 = .ok (.if_icmp .ge 29, 3) := dk_162 0 29 (dk_at dksX4_isDigit_0 5 rfl rfl)
theorem dX4_isDigit_8 : decode cX4_isDigit 8 = .ok (.aload_n 0, 1) := dk_42 (dk_at dksX4_isDigit_0 8 rfl rfl)
theorem dX4_isDigit_9 : decode cX4_isDigit 9 = .ok (.getfield 7, 3) := dk_180 0 7 (dk_at dksX4_isDigit_0 9 rfl rfl)
theorem dX4_isDigit_12 : decode cX4_isDigit 12 = .ok (.iload_n 1, 1) := dk_27 (dk_at dksX4_isDigit_0 12 rfl rfl)
theorem dX4_isDigit_13 : decode cX4_isDigit 13 = .ok (.iaload, 1) := dk_46 (dk_at dksX4_isDigit_0 13 rfl rfl)
theorem dX4_isDigit_14 : decode cX4_isDigit 14 = .ok (.bipush 48, 2) := dk_16 48 (dk_at dksX4_isDigit_0 14 rfl rfl)
theorem dX4_isDigit_16 : decode cX4_isDigit 16 = .ok (.if_icmp .lt 18, 3) := dk_161 0 18 (dk_at dksX4_isDigit_0 16 rfl rfl)
theorem dX4_isDigit_19 : decode cX4_isDigit 19 = .ok (.aload_n 0, 1) := dk_42 (dk_at dksX4_isDigit_0 19 rfl rfl)
theorem dX4_isDigit_20 : decode cX4_isDigit 20 = .ok (.getfield 7, 3) := dk_180 0 7 (dk_at dksX4_isDigit_0 20 rfl rfl)
theorem dX4_isDigit_23 : decode cX4_isDigit 23 = .ok (.iload_n 1, 1) := dk_27 (dk_at dksX4_isDigit_0 23 rfl rfl)
theorem dX4_isDigit_24 : decode cX4_isDigit 24 = .ok (.iaload, 1) := dk_46 (dk_at dksX4_isDigit_1 0 rfl rfl)
theorem dX4_isDigit_25 : decode cX4_isDigit 25 = .ok (.bipush 57, 2) := dk_16 57 (dk_at dksX4_isDigit_1 1 rfl rfl)
theorem dX4_isDigit_27 : decode cX4_isDigit 27 = .ok (.if_icmp .gt 7, 3) := dk_163 0 7 (dk_at dksX4_isDigit_1 3 rfl rfl)
theorem dX4_isDigit_30 : decode cX4_isDigit 30 = .ok (.iconst 1, 1) := dk_4 (dk_at dksX4_isDigit_1 6 rfl rfl)
theorem dX4_isDigit_31 : decode cX4_isDigit 31 = .ok (.goto 4, 3) := dk_167 0 4 (dk_at dksX4_isDigit_1 7 rfl rfl)
theorem dX4_isDigit_34 : decode cX4_isDigit 34 = .ok (.iconst 0, 1) := dk_3 (dk_at dksX4_isDigit_1 10 rfl rfl)
theorem dX4_isDigit_35 : decode cX4_isDigit 35 = .ok (.ireturn, 1) := dk_172 (dk_at dksX4_isDigit_1 11 rfl rfl)
abbrev cX4_takeSign : ByteArray := prog_18_method_12_code
def yX4_takeSign : MethodName := ⟨RX4, "takeSign", "()V"⟩
def dkwX4_takeSign_11 : List UInt8 := [160, 0, 7, 4, 167, 0, 4, 3, 60, 42, 27, 153, 0, 7, 7, 167, 0, 5, 16, 6, 181, 0, 142, 177]
abbrev dktX4_takeSign_11 : List UInt8 := dkwX4_takeSign_11 ++ []
def dkwX4_takeSign_10 : List UInt8 := [180, 0, 153, 16, 45, 159, 0, 21, 42, 180, 0, 153, 16, 42, 159, 0, 12, 42, 180, 0, 153, 16, 47]
abbrev dktX4_takeSign_10 : List UInt8 := dkwX4_takeSign_10 ++ dktX4_takeSign_11
def dkwX4_takeSign_9 : List UInt8 := [16, 40, 159, 0, 48, 42, 180, 0, 153, 16, 41, 159, 0, 39, 42, 180, 0, 153, 16, 43, 159, 0, 30, 42]
abbrev dktX4_takeSign_9 : List UInt8 := dkwX4_takeSign_9 ++ dktX4_takeSign_10
def dkwX4_takeSign_8 : List UInt8 := [167, 0, 4, 8, 181, 0, 153, 167, 0, 86, 42, 180, 0, 153, 16, 59, 159, 0, 57, 42, 180, 0, 153]
abbrev dktX4_takeSign_8 : List UInt8 := dkwX4_takeSign_8 ++ dktX4_takeSign_9
def dkwX4_takeSign_7 : List UInt8 := [153, 0, 7, 4, 167, 0, 24, 29, 153, 0, 7, 6, 167, 0, 16, 3, 167, 0, 12, 28, 153, 0, 7, 7]
abbrev dktX4_takeSign_7 : List UInt8 := dkwX4_takeSign_7 ++ dktX4_takeSign_8
def dkwX4_takeSign_6 : List UInt8 := [180, 0, 153, 16, 61, 160, 0, 7, 5, 167, 0, 41, 42, 180, 0, 153, 16, 60, 160, 0, 23, 28]
abbrev dktX4_takeSign_6 : List UInt8 := dkwX4_takeSign_6 ++ dktX4_takeSign_7
def dkwX4_takeSign_5 : List UInt8 := [154, 0, 7, 29, 153, 0, 13, 42, 89, 180, 0, 139, 4, 96, 181, 0, 139, 42, 8, 181, 0, 142, 42, 42]
abbrev dktX4_takeSign_5 : List UInt8 := dkwX4_takeSign_5 ++ dktX4_takeSign_6
def dkwX4_takeSign_4 : List UInt8 := [3, 61, 42, 180, 0, 153, 16, 60, 160, 0, 13, 27, 16, 62, 160, 0, 7, 4, 167, 0, 4, 3, 62, 28]
abbrev dktX4_takeSign_4 : List UInt8 := dkwX4_takeSign_4 ++ dktX4_takeSign_5
def dkwX4_takeSign_3 : List UInt8 := [167, 0, 4, 3, 60, 42, 180, 0, 153, 16, 61, 159, 0, 13, 27, 16, 61, 160, 0, 7, 4, 167, 0, 4]
abbrev dktX4_takeSign_3 : List UInt8 := dkwX4_takeSign_3 ++ dktX4_takeSign_4
def dkwX4_takeSign_2 : List UInt8 := [160, 0, 151, 42, 180, 0, 139, 42, 180, 0, 136, 162, 0, 15, 42, 180, 0, 7, 42, 180, 0, 139, 46]
abbrev dktX4_takeSign_2 : List UInt8 := dkwX4_takeSign_2 ++ dktX4_takeSign_3
def dkwX4_takeSign_1 : List UInt8 := [180, 0, 153, 16, 60, 159, 0, 21, 42, 180, 0, 153, 16, 62, 159, 0, 12, 42, 180, 0, 153, 16, 61]
abbrev dktX4_takeSign_1 : List UInt8 := dkwX4_takeSign_1 ++ dktX4_takeSign_2
def dkwX4_takeSign_0 : List UInt8 := [42, 42, 180, 0, 7, 42, 180, 0, 139, 46, 181, 0, 153, 42, 89, 180, 0, 139, 4, 96, 181, 0, 139, 42]
abbrev dktX4_takeSign_0 : List UInt8 := dkwX4_takeSign_0 ++ dktX4_takeSign_1
theorem dksX4_takeSign_0 : cX4_takeSign.data.toList.drop 0 = dktX4_takeSign_0 := by decide +kernel
theorem dksX4_takeSign_1 : cX4_takeSign.data.toList.drop 24 = dktX4_takeSign_1 := dk_seg dksX4_takeSign_0 24 rfl rfl
theorem dksX4_takeSign_2 : cX4_takeSign.data.toList.drop 47 = dktX4_takeSign_2 := dk_seg dksX4_takeSign_1 23 rfl rfl
theorem dksX4_takeSign_3 : cX4_takeSign.data.toList.drop 70 = dktX4_takeSign_3 := dk_seg dksX4_takeSign_2 23 rfl rfl
theorem dksX4_takeSign_4 : cX4_takeSign.data.toList.drop 94 = dktX4_takeSign_4 := dk_seg dksX4_takeSign_3 24 rfl rfl
theorem dksX4_takeSign_5 : cX4_takeSign.data.toList.drop 118 = dktX4_takeSign_5 := dk_seg dksX4_takeSign_4 24 rfl rfl
theorem dksX4_takeSign_6 : cX4_takeSign.data.toList.drop 142 = dktX4_takeSign_6 := dk_seg dksX4_takeSign_5 24 rfl rfl
theorem dksX4_takeSign_7 : cX4_takeSign.data.toList.drop 164 = dktX4_takeSign_7 := dk_seg dksX4_takeSign_6 22 rfl rfl
theorem dksX4_takeSign_8 : cX4_takeSign.data.toList.drop 188 = dktX4_takeSign_8 := dk_seg dksX4_takeSign_7 24 rfl rfl
theorem dksX4_takeSign_9 : cX4_takeSign.data.toList.drop 211 = dktX4_takeSign_9 := dk_seg dksX4_takeSign_8 23 rfl rfl
theorem dksX4_takeSign_10 : cX4_takeSign.data.toList.drop 235 = dktX4_takeSign_10 := dk_seg dksX4_takeSign_9 24 rfl rfl
theorem dksX4_takeSign_11 : cX4_takeSign.data.toList.drop 258 = dktX4_takeSign_11 := dk_seg dksX4_takeSign_10 23 rfl rfl
theorem dX4_takeSign_0 : decode cX4_takeSign 0 = .ok (.aload_n 0, 1) := dk_42 (dk_at dksX4_takeSign_0 0 rfl rfl)
theorem dX4_takeSign_1 : decode cX4_takeSign 1 = .ok (.aload_n 0, 1) := dk_42 (dk_at dksX4_takeSign_0 1 rfl rfl)
theorem dX4_takeSign_2 : decode cX4_takeSign 2 = .ok (.getfield 7, 3) := dk_180 0 7 (dk_at dksX4_takeSign_0 2 rfl rfl)
theorem dX4_takeSign_5 : decode cX4_takeSign 5 = .ok (.aload_n 0, 1) := dk_42 (dk_at dksX4_takeSign_0 5 rfl rfl)
theorem dX4_takeSign_6 : decode cX4_takeSign 6 = .ok (.getfield 139, 3) := dk_180 0 139 (dk_at dksX4_takeSign_0 6 rfl rfl)
theorem dX4_takeSign_9 : decode cX4_takeSign 9 = .ok (.iaload, 1) := dk_46 (dk_at dksX4_takeSign_0 9 rfl rfl)
theorem dX4_takeSign_10 : decode cX4_takeSign 10 = .ok (.putfield 153, 3) := dk_181 0 153 (dk_at dksX4_takeSign_0 10 rfl rfl)
theorem dX4_takeSign_13 : decode cX4_takeSign 13 = .ok (.aload_n 0, 1) := dk_42 (dk_at dksX4_takeSign_0 13 rfl rfl)
theorem dX4_takeSign_14 : decode cX4_takeSign 14 = .ok (.dup, 1) := dk_89 (dk_at dksX4_takeSign_0 14 rfl rfl)
theorem dX4_takeSign_15 : decode cX4_takeSign 15 = .ok (.getfield 139, 3) := dk_180 0 139 (dk_at dksX4_takeSign_0 15 rfl rfl)
theorem dX4_takeSign_18 : decode cX4_takeSign 18 = .ok (.iconst 1, 1) := dk_4 (dk_at dksX4_takeSign_0 18 rfl rfl)
theorem dX4_takeSign_19 : decode cX4_takeSign 19 = .ok (.iadd, 1) := dk_96 (dk_at dksX4_takeSign_0 19 rfl rfl)
theorem dX4_takeSign_20 : decode cX4_takeSign 20 = .ok (.putfield 139, 3) := dk_181 0 139 (dk_at dksX4_takeSign_0 20 rfl rfl)
theorem dX4_takeSign_23 : decode cX4_takeSign 23 = .ok (.aload_n 0, 1) := dk_42 (dk_at dksX4_takeSign_0 23 rfl rfl)
theorem dX4_takeSign_24 : decode cX4_takeSign 24 = .ok (.getfield 153, 3) := dk_180 0 153 (dk_at dksX4_takeSign_1 0 rfl rfl)
theorem dX4_takeSign_27 : decode cX4_takeSign 27 = .ok (.bipush 60, 2) := dk_16 60 (dk_at dksX4_takeSign_1 3 rfl rfl)
theorem dX4_takeSign_29 : decode cX4_takeSign 29 = .ok (.if_icmp .eq 21, 3) := dk_159 0 21 (dk_at dksX4_takeSign_1 5 rfl rfl)
theorem dX4_takeSign_32 : decode cX4_takeSign 32 = .ok (.aload_n 0, 1) := dk_42 (dk_at dksX4_takeSign_1 8 rfl rfl)
theorem dX4_takeSign_33 : decode cX4_takeSign 33 = .ok (.getfield 153, 3) := dk_180 0 153 (dk_at dksX4_takeSign_1 9 rfl rfl)
theorem dX4_takeSign_36 : decode cX4_takeSign 36 = .ok (.bipush 62, 2) := dk_16 62 (dk_at dksX4_takeSign_1 12 rfl rfl)
theorem dX4_takeSign_38 : decode cX4_takeSign 38 = .ok (.if_icmp .eq 12, 3) := dk_159 0 12 (dk_at dksX4_takeSign_1 14 rfl rfl)
theorem dX4_takeSign_41 : decode cX4_takeSign 41 = .ok (.aload_n 0, 1) := dk_42 (dk_at dksX4_takeSign_1 17 rfl rfl)
theorem dX4_takeSign_42 : decode cX4_takeSign 42 = .ok (.getfield 153, 3) := dk_180 0 153 (dk_at dksX4_takeSign_1 18 rfl rfl)
theorem dX4_takeSign_45 : decode cX4_takeSign 45 = .ok (.bipush 61, 2) := dk_16 61 (dk_at dksX4_takeSign_1 21 rfl rfl)
theorem dX4_takeSign_47 : decode cX4_takeSign 47 = .ok (.if_icmp .ne 151, 3) := dk_160 0 151 (dk_at dksX4_takeSign_2 0 rfl rfl)
theorem dX4_takeSign_50 : decode cX4_takeSign 50 = .ok (.aload_n 0, 1) := dk_42 (dk_at dksX4_takeSign_2 3 rfl rfl)
theorem dX4_takeSign_51 : decode cX4_takeSign 51 = .ok (.getfield 139, 3) := dk_180 0 139 (dk_at dksX4_takeSign_2 4 rfl rfl)
theorem dX4_takeSign_54 : decode cX4_takeSign 54 = .ok (.aload_n 0, 1) := dk_42 (dk_at dksX4_takeSign_2 7 rfl rfl)
theorem dX4_takeSign_55 : decode cX4_takeSign 55 = .ok (.getfield 136, 3) := dk_180 0 136 (dk_at dksX4_takeSign_2 8 rfl rfl)
theorem dX4_takeSign_58 : decode cX4_takeSign 58 = .ok (.if_icmp .ge 15, 3) := dk_162 0 15 (dk_at dksX4_takeSign_2 11 rfl rfl)
theorem dX4_takeSign_61 : decode cX4_takeSign 61 = .ok (.aload_n 0, 1) := dk_42 (dk_at dksX4_takeSign_2 14 rfl rfl)
theorem dX4_takeSign_62 : decode cX4_takeSign 62 = .ok (.getfield 7, 3) := dk_180 0 7 (dk_at dksX4_takeSign_2 15 rfl rfl)
theorem dX4_takeSign_65 : decode cX4_takeSign 65 = .ok (.aload_n 0, 1) := dk_42 (dk_at dksX4_takeSign_2 18 rfl rfl)
theorem dX4_takeSign_66 : decode cX4_takeSign 66 = .ok (.getfield 139, 3) := dk_180 0 139 (dk_at dksX4_takeSign_2 19 rfl rfl)
theorem dX4_takeSign_69 : decode cX4_takeSign 69 = .ok (.iaload, 1) := dk_46 (dk_at dksX4_takeSign_2 22 rfl rfl)
theorem dX4_takeSign_70 : decode cX4_takeSign 70 = .ok (.goto 4, 3) := dk_167 0 4 (dk_at dksX4_takeSign_3 0 rfl rfl)
theorem dX4_takeSign_73 : decode cX4_takeSign 73 = .ok (.iconst 0, 1) := dk_3 (dk_at dksX4_takeSign_3 3 rfl rfl)
theorem dX4_takeSign_74 : decode cX4_takeSign 74 = .ok (.istore_n 1, 1) := dk_60 (dk_at dksX4_takeSign_3 4 rfl rfl)
theorem dX4_takeSign_75 : decode cX4_takeSign 75 = .ok (.aload_n 0, 1) := dk_42 (dk_at dksX4_takeSign_3 5 rfl rfl)
theorem dX4_takeSign_76 : decode cX4_takeSign 76 = .ok (.getfield 153, 3) := dk_180 0 153 (dk_at dksX4_takeSign_3 6 rfl rfl)
theorem dX4_takeSign_79 : decode cX4_takeSign 79 = .ok (.bipush 61, 2) := dk_16 61 (dk_at dksX4_takeSign_3 9 rfl rfl)
theorem dX4_takeSign_81 : decode cX4_takeSign 81 = .ok (.if_icmp .eq 13, 3) := dk_159 0 13 (dk_at dksX4_takeSign_3 11 rfl rfl)
theorem dX4_takeSign_84 : decode cX4_takeSign 84 = .ok (.iload_n 1, 1) := dk_27 (dk_at dksX4_takeSign_3 14 rfl rfl)
theorem dX4_takeSign_85 : decode cX4_takeSign 85 = .ok (.bipush 61, 2) := dk_16 61 (dk_at dksX4_takeSign_3 15 rfl rfl)
theorem dX4_takeSign_87 : decode cX4_takeSign 87 = .ok (.if_icmp .ne 7, 3) := dk_160 0 7 (dk_at dksX4_takeSign_3 17 rfl rfl)
theorem dX4_takeSign_90 : decode cX4_takeSign 90 = .ok (.iconst 1, 1) := dk_4 (dk_at dksX4_takeSign_3 20 rfl rfl)
theorem dX4_takeSign_91 : decode cX4_takeSign 91 = .ok (.goto 4, 3) := dk_167 0 4 (dk_at dksX4_takeSign_3 21 rfl rfl)
theorem dX4_takeSign_94 : decode cX4_takeSign 94 = .ok (.iconst 0, 1) := dk_3 (dk_at dksX4_takeSign_4 0 rfl rfl)
theorem dX4_takeSign_95 : decode cX4_takeSign 95 = .ok (.istore_n 2, 1) := dk_61 (dk_at dksX4_takeSign_4 1 rfl rfl)
theorem dX4_takeSign_96 : decode cX4_takeSign 96 = .ok (.aload_n 0, 1) := dk_42 (dk_at dksX4_takeSign_4 2 rfl rfl)
theorem dX4_takeSign_97 : decode cX4_takeSign 97 = .ok (.getfield 153, 3) := dk_180 0 153 (dk_at dksX4_takeSign_4 3 rfl rfl)
theorem dX4_takeSign_100 : decode cX4_takeSign 100 = .ok (.bipush 60, 2) := dk_16 60 (dk_at dksX4_takeSign_4 6 rfl rfl)
theorem dX4_takeSign_102 : decode cX4_takeSign 102 = .ok (.if_icmp .ne 13, 3) := dk_160 0 13 (dk_at dksX4_takeSign_4 8 rfl rfl)
theorem dX4_takeSign_105 : decode cX4_takeSign 105 = .ok (.iload_n 1, 1) := dk_27 (dk_at dksX4_takeSign_4 11 rfl rfl)
theorem dX4_takeSign_106 : decode cX4_takeSign 106 = .ok (.bipush 62, 2) := dk_16 62 (dk_at dksX4_takeSign_4 12 rfl rfl)
theorem dX4_takeSign_108 : decode cX4_takeSign 108 = .ok (.if_icmp .ne 7, 3) := dk_160 0 7 (dk_at dksX4_takeSign_4 14 rfl rfl)
theorem dX4_takeSign_111 : decode cX4_takeSign 111 = .ok (.iconst 1, 1) := dk_4 (dk_at dksX4_takeSign_4 17 rfl rfl)
theorem dX4_takeSign_112 : decode cX4_takeSign 112 = .ok (.goto 4, 3) := dk_167 0 4 (dk_at dksX4_takeSign_4 18 rfl rfl)
theorem dX4_takeSign_115 : decode cX4_takeSign 115 = .ok (.iconst 0, 1) := dk_3 (dk_at dksX4_takeSign_4 21 rfl rfl)
theorem dX4_takeSign_116 : decode cX4_takeSign 116 = .ok (.istore_n 3, 1) := dk_62 (dk_at dksX4_takeSign_4 22 rfl rfl)
theorem dX4_takeSign_117 : decode cX4_takeSign 117 = .ok (.iload_n 2, 1) := dk_28 (dk_at dksX4_takeSign_4 23 rfl rfl)
theorem dX4_takeSign_118 : decode cX4_takeSign 118 = .ok (.ifCond .ne 7, 3) := dk_154 0 7 (dk_at dksX4_takeSign_5 0 rfl rfl)
theorem dX4_takeSign_121 : decode cX4_takeSign 121 = .ok (.iload_n 3, 1) := dk_29 (dk_at dksX4_takeSign_5 3 rfl rfl)
theorem dX4_takeSign_122 : decode cX4_takeSign 122 = .ok (.ifCond .eq 13, 3) := dk_153 0 13 (dk_at dksX4_takeSign_5 4 rfl rfl)
theorem dX4_takeSign_125 : decode cX4_takeSign 125 = .ok (.aload_n 0, 1) := dk_42 (dk_at dksX4_takeSign_5 7 rfl rfl)
theorem dX4_takeSign_126 : decode cX4_takeSign 126 = .ok (.dup, 1) := dk_89 (dk_at dksX4_takeSign_5 8 rfl rfl)
theorem dX4_takeSign_127 : decode cX4_takeSign 127 = .ok (.getfield 139, 3) := dk_180 0 139 (dk_at dksX4_takeSign_5 9 rfl rfl)
theorem dX4_takeSign_130 : decode cX4_takeSign 130 = .ok (.iconst 1, 1) := dk_4 (dk_at dksX4_takeSign_5 12 rfl rfl)
theorem dX4_takeSign_131 : decode cX4_takeSign 131 = .ok (.iadd, 1) := dk_96 (dk_at dksX4_takeSign_5 13 rfl rfl)
theorem dX4_takeSign_132 : decode cX4_takeSign 132 = .ok (.putfield 139, 3) := dk_181 0 139 (dk_at dksX4_takeSign_5 14 rfl rfl)
theorem dX4_takeSign_135 : decode cX4_takeSign 135 = .ok (.aload_n 0, 1) := dk_42 (dk_at dksX4_takeSign_5 17 rfl rfl)
theorem dX4_takeSign_136 : decode cX4_takeSign 136 = .ok (.iconst 5, 1) := dk_8 (dk_at dksX4_takeSign_5 18 rfl rfl)
theorem dX4_takeSign_137 : decode cX4_takeSign 137 = .ok (.putfield 142, 3) := dk_181 0 142 (dk_at dksX4_takeSign_5 19 rfl rfl)
theorem dX4_takeSign_140 : decode cX4_takeSign 140 = .ok (.aload_n 0, 1) := dk_42 (dk_at dksX4_takeSign_5 22 rfl rfl)
theorem dX4_takeSign_141 : decode cX4_takeSign 141 = .ok (.aload_n 0, 1) := dk_42 (dk_at dksX4_takeSign_5 23 rfl rfl)
theorem dX4_takeSign_142 : decode cX4_takeSign 142 = .ok (.getfield 153, 3) := dk_180 0 153 (dk_at dksX4_takeSign_6 0 rfl rfl)
theorem dX4_takeSign_145 : decode cX4_takeSign 145 = .ok (.bipush 61, 2) := dk_16 61 (dk_at dksX4_takeSign_6 3 rfl rfl)
theorem dX4_takeSign_147 : decode cX4_takeSign 147 = .ok (.if_icmp .ne 7, 3) := dk_160 0 7 (dk_at dksX4_takeSign_6 5 rfl rfl)
theorem dX4_takeSign_150 : decode cX4_takeSign 150 = .ok (.iconst 2, 1) := dk_5 (dk_at dksX4_takeSign_6 8 rfl rfl)
theorem dX4_takeSign_151 : decode cX4_takeSign 151 = .ok (.goto 41, 3) := dk_167 0 41 (dk_at dksX4_takeSign_6 9 rfl rfl)
theorem dX4_takeSign_154 : decode cX4_takeSign 154 = .ok (.aload_n 0, 1) := dk_42 (dk_at dksX4_takeSign_6 12 rfl rfl)
theorem dX4_takeSign_155 : decode cX4_takeSign 155 = .ok (.getfield 153, 3) := dk_180 0 153 (dk_at dksX4_takeSign_6 13 rfl rfl)
theorem dX4_takeSign_158 : decode cX4_takeSign 158 = .ok (.bipush 60, 2) := dk_16 60 (dk_at dksX4_takeSign_6 16 rfl rfl)
theorem dX4_takeSign_160 : decode cX4_takeSign 160 = .ok (.if_icmp .ne 23, 3) := dk_160 0 23 (dk_at dksX4_takeSign_6 18 rfl rfl)
theorem dX4_takeSign_163 : decode cX4_takeSign 163 = .ok (.iload_n 2, 1) := dk_28 (dk_at dksX4_takeSign_6 21 rfl rfl)
theorem dX4_takeSign_164 : decode cX4_takeSign 164 = .ok (.ifCond .eq 7, 3) := dk_153 0 7 (dk_at dksX4_takeSign_7 0 rfl rfl)
theorem dX4_takeSign_167 : decode cX4_takeSign 167 = .ok (.iconst 1, 1) := dk_4 (dk_at dksX4_takeSign_7 3 rfl rfl)
theorem dX4_takeSign_168 : decode cX4_takeSign 168 = .ok (.goto 24, 3) := dk_167 0 24 (dk_at dksX4_takeSign_7 4 rfl rfl)
theorem dX4_takeSign_171 : decode cX4_takeSign 171 = .ok (.iload_n 3, 1) := dk_29 (dk_at dksX4_takeSign_7 7 rfl rfl)
theorem dX4_takeSign_172 : decode cX4_takeSign 172 = .ok (.ifCond .eq 7, 3) := dk_153 0 7 (dk_at dksX4_takeSign_7 8 rfl rfl)
theorem dX4_takeSign_175 : decode cX4_takeSign 175 = .ok (.iconst 3, 1) := dk_6 (dk_at dksX4_takeSign_7 11 rfl rfl)
theorem dX4_takeSign_176 : decode cX4_takeSign 176 = .ok (.goto 16, 3) := dk_167 0 16 (dk_at dksX4_takeSign_7 12 rfl rfl)
theorem dX4_takeSign_179 : decode cX4_takeSign 179 = .ok (.iconst 0, 1) := dk_3 (dk_at dksX4_takeSign_7 15 rfl rfl)
theorem dX4_takeSign_180 : decode cX4_takeSign 180 = .ok (.goto 12, 3) := dk_167 0 12 (dk_at dksX4_takeSign_7 16 rfl rfl)
theorem dX4_takeSign_183 : decode cX4_takeSign 183 = .ok (.iload_n 2, 1) := dk_28 (dk_at dksX4_takeSign_7 19 rfl rfl)
theorem dX4_takeSign_184 : decode cX4_takeSign 184 = .ok (.ifCond .eq 7, 3) := dk_153 0 7 (dk_at dksX4_takeSign_7 20 rfl rfl)
theorem dX4_takeSign_187 : decode cX4_takeSign 187 = .ok (.iconst 4, 1) := dk_7 (dk_at dksX4_takeSign_7 23 rfl rfl)
theorem dX4_takeSign_188 : decode cX4_takeSign 188 = .ok (.goto 4, 3) := dk_167 0 4 (dk_at dksX4_takeSign_8 0 rfl rfl)
theorem dX4_takeSign_191 : decode cX4_takeSign 191 = .ok (.iconst 5, 1) := dk_8 (dk_at dksX4_takeSign_8 3 rfl rfl)
theorem dX4_takeSign_192 : decode cX4_takeSign 192 = .ok (.putfield 153, 3) := dk_181 0 153 (dk_at dksX4_takeSign_8 4 rfl rfl)
theorem dX4_takeSign_195 : decode cX4_takeSign 195 = .ok (.goto 86, 3) := dk_167 0 86 (dk_at dksX4_takeSign_8 7 rfl rfl)
theorem dX4_takeSign_198 : decode cX4_takeSign 198 = .ok (.aload_n 0, 1) := dk_42 (dk_at dksX4_takeSign_8 10 rfl rfl)
theorem dX4_takeSign_199 : decode cX4_takeSign 199 = .ok (.getfield 153, 3) := dk_180 0 153 (dk_at dksX4_takeSign_8 11 rfl rfl)
theorem dX4_takeSign_202 : decode cX4_takeSign 202 = .ok (.bipush 59, 2) := dk_16 59 (dk_at dksX4_takeSign_8 14 rfl rfl)
theorem dX4_takeSign_204 : decode cX4_takeSign 204 = .ok (.if_icmp .eq 57, 3) := dk_159 0 57 (dk_at dksX4_takeSign_8 16 rfl rfl)
theorem dX4_takeSign_207 : decode cX4_takeSign 207 = .ok (.aload_n 0, 1) := dk_42 (dk_at dksX4_takeSign_8 19 rfl rfl)
theorem dX4_takeSign_208 : decode cX4_takeSign 208 = .ok (.getfield 153, 3) := dk_180 0 153 (dk_at dksX4_takeSign_8 20 rfl rfl)
theorem dX4_takeSign_211 : decode cX4_takeSign 211 = .ok (.bipush 40, 2) := dk_16 40 (dk_at dksX4_takeSign_9 0 rfl rfl)
theorem dX4_takeSign_213 : decode cX4_takeSign 213 = .ok (.if_icmp .eq 48, 3) := dk_159 0 48 (dk_at dksX4_takeSign_9 2 rfl rfl)
theorem dX4_takeSign_216 : decode cX4_takeSign 216 = .ok (.aload_n 0, 1) := dk_42 (dk_at dksX4_takeSign_9 5 rfl rfl)
theorem dX4_takeSign_217 : decode cX4_takeSign 217 = .ok (.getfield 153, 3) := dk_180 0 153 (dk_at dksX4_takeSign_9 6 rfl rfl)
theorem dX4_takeSign_220 : decode cX4_takeSign 220 = .ok (.bipush 41, 2) := dk_16 41 (dk_at dksX4_takeSign_9 9 rfl rfl)
theorem dX4_takeSign_222 : decode cX4_takeSign 222 = .ok (.if_icmp .eq 39, 3) := dk_159 0 39 (dk_at dksX4_takeSign_9 11 rfl rfl)
theorem dX4_takeSign_225 : decode cX4_takeSign 225 = .ok (.aload_n 0, 1) := dk_42 (dk_at dksX4_takeSign_9 14 rfl rfl)
theorem dX4_takeSign_226 : decode cX4_takeSign 226 = .ok (.getfield 153, 3) := dk_180 0 153 (dk_at dksX4_takeSign_9 15 rfl rfl)
theorem dX4_takeSign_229 : decode cX4_takeSign 229 = .ok (.bipush 43, 2) := dk_16 43 (dk_at dksX4_takeSign_9 18 rfl rfl)
theorem dX4_takeSign_231 : decode cX4_takeSign 231 = .ok (.if_icmp .eq 30, 3) := dk_159 0 30 (dk_at dksX4_takeSign_9 20 rfl rfl)
theorem dX4_takeSign_234 : decode cX4_takeSign 234 = .ok (.aload_n 0, 1) := dk_42 (dk_at dksX4_takeSign_9 23 rfl rfl)
theorem dX4_takeSign_235 : decode cX4_takeSign 235 = .ok (.getfield 153, 3) := dk_180 0 153 (dk_at dksX4_takeSign_10 0 rfl rfl)
theorem dX4_takeSign_238 : decode cX4_takeSign 238 = .ok (.bipush 45, 2) := dk_16 45 (dk_at dksX4_takeSign_10 3 rfl rfl)
theorem dX4_takeSign_240 : decode cX4_takeSign 240 = .ok (.if_icmp .eq 21, 3) := dk_159 0 21 (dk_at dksX4_takeSign_10 5 rfl rfl)
theorem dX4_takeSign_243 : decode cX4_takeSign 243 = .ok (.aload_n 0, 1) := dk_42 (dk_at dksX4_takeSign_10 8 rfl rfl)
theorem dX4_takeSign_244 : decode cX4_takeSign 244 = .ok (.getfield 153, 3) := dk_180 0 153 (dk_at dksX4_takeSign_10 9 rfl rfl)
theorem dX4_takeSign_247 : decode cX4_takeSign 247 = .ok (.bipush 42, 2) := dk_16 42 (dk_at dksX4_takeSign_10 12 rfl rfl)
theorem dX4_takeSign_249 : decode cX4_takeSign 249 = .ok (.if_icmp .eq 12, 3) := dk_159 0 12 (dk_at dksX4_takeSign_10 14 rfl rfl)
theorem dX4_takeSign_252 : decode cX4_takeSign 252 = .ok (.aload_n 0, 1) := dk_42 (dk_at dksX4_takeSign_10 17 rfl rfl)
theorem dX4_takeSign_253 : decode cX4_takeSign 253 = .ok (.getfield 153, 3) := dk_180 0 153 (dk_at dksX4_takeSign_10 18 rfl rfl)
theorem dX4_takeSign_256 : decode cX4_takeSign 256 = .ok (.bipush 47, 2) := dk_16 47 (dk_at dksX4_takeSign_10 21 rfl rfl)
theorem dX4_takeSign_258 : decode cX4_takeSign 258 = .ok (.if_icmp .ne 7, 3) := dk_160 0 7 (dk_at dksX4_takeSign_11 0 rfl rfl)
theorem dX4_takeSign_261 : decode cX4_takeSign 261 = .ok (.iconst 1, 1) := dk_4 (dk_at dksX4_takeSign_11 3 rfl rfl)
theorem dX4_takeSign_262 : decode cX4_takeSign 262 = .ok (.goto 4, 3) := dk_167 0 4 (dk_at dksX4_takeSign_11 4 rfl rfl)
theorem dX4_takeSign_265 : decode cX4_takeSign 265 = .ok (.iconst 0, 1) := dk_3 (dk_at dksX4_takeSign_11 7 rfl rfl)
theorem dX4_takeSign_266 : decode cX4_takeSign 266 = .ok (.istore_n 1, 1) := dk_60 (dk_at dksX4_takeSign_11 8 rfl rfl)
theorem dX4_takeSign_267 : decode cX4_takeSign 267 = .ok (.aload_n 0, 1) := dk_42 (dk_at dksX4_takeSign_11 9 rfl rfl)
theorem dX4_takeSign_268 : decode cX4_takeSign 268 = .ok (.iload_n 1, 1) := dk_27 (dk_at dksX4_takeSign_11 10 rfl rfl)
theorem dX4_takeSign_269 : decode cX4_takeSign 269 = .ok (.ifCond .eq 7, 3) := dk_153 0 7 (dk_at dksX4_takeSign_11 11 rfl rfl)
theorem dX4_takeSign_272 : decode cX4_takeSign 272 = .ok (.iconst 4, 1) := dk_7 (dk_at dksX4_takeSign_11 14 rfl rfl)
theorem dX4_takeSign_273 : decode cX4_takeSign 273 = .ok (.goto 5, 3) := dk_167 0 5 (dk_at dksX4_takeSign_11 15 rfl rfl)
theorem dX4_takeSign_276 : decode cX4_takeSign 276 = .ok (.bipush 6, 2) := dk_16 6 (dk_at dksX4_takeSign_11 18 rfl rfl)
theorem dX4_takeSign_278 : decode cX4_takeSign 278 = .ok (.putfield 142, 3) := dk_181 0 142 (dk_at dksX4_takeSign_11 20 rfl rfl)
theorem dX4_takeSign_281 : decode cX4_takeSign 281 = .ok (.return_, 1) := dk_177 (dk_at dksX4_takeSign_11 23 rfl rfl)
abbrev cX4_lineRead : ByteArray := prog_18_method_38_code
def yX4_lineRead : MethodName := ⟨RX4, "lineRead", "()Z"⟩
def dkwX4_lineRead_6 : List UInt8 := [182, 0, 171, 4, 172]
abbrev dktX4_lineRead_6 : List UInt8 := dkwX4_lineRead_6 ++ []
def dkwX4_lineRead_5 : List UInt8 := [60, 27, 154, 0, 5, 3, 172, 42, 16, 59, 182, 1, 4, 154, 0, 9, 42, 4, 182, 0, 168, 172, 42]
abbrev dktX4_lineRead_5 : List UInt8 := dkwX4_lineRead_5 ++ dktX4_lineRead_6
def dkwX4_lineRead_4 : List UInt8 := [167, 0, 25, 42, 4, 182, 1, 40, 60, 167, 0, 16, 42, 182, 1, 44, 60, 167, 0, 8, 42, 182, 1, 47]
abbrev dktX4_lineRead_4 : List UInt8 := dkwX4_lineRead_4 ++ dktX4_lineRead_5
def dkwX4_lineRead_3 : List UInt8 := [42, 182, 1, 34, 60, 167, 0, 42, 42, 182, 1, 37, 60, 167, 0, 34, 42, 3, 182, 1, 40, 60]
abbrev dktX4_lineRead_3 : List UInt8 := dkwX4_lineRead_3 ++ dktX4_lineRead_4
def dkwX4_lineRead_2 : List UInt8 := [170, 0, 0, 0, 75, 0, 0, 0, 0, 0, 0, 0, 4, 0, 0, 0, 33, 0, 0, 0, 41, 0, 0, 0, 49, 0, 0, 0, 58, 0, 0, 0, 67]
abbrev dktX4_lineRead_2 : List UInt8 := dkwX4_lineRead_2 ++ dktX4_lineRead_3
def dkwX4_lineRead_1 : List UInt8 := [180, 0, 153]
abbrev dktX4_lineRead_1 : List UInt8 := dkwX4_lineRead_1 ++ dktX4_lineRead_2
def dkwX4_lineRead_0 : List UInt8 := [42, 180, 0, 142, 4, 160, 0, 12, 42, 180, 0, 153, 16, 7, 164, 0, 9, 42, 4, 182, 0, 168, 172, 42]
abbrev dktX4_lineRead_0 : List UInt8 := dkwX4_lineRead_0 ++ dktX4_lineRead_1
theorem dksX4_lineRead_0 : cX4_lineRead.data.toList.drop 0 = dktX4_lineRead_0 := by decide +kernel
theorem dksX4_lineRead_1 : cX4_lineRead.data.toList.drop 24 = dktX4_lineRead_1 := dk_seg dksX4_lineRead_0 24 rfl rfl
theorem dksX4_lineRead_2 : cX4_lineRead.data.toList.drop 27 = dktX4_lineRead_2 := dk_seg dksX4_lineRead_1 3 rfl rfl
theorem dksX4_lineRead_3 : cX4_lineRead.data.toList.drop 60 = dktX4_lineRead_3 := dk_seg dksX4_lineRead_2 33 rfl rfl
theorem dksX4_lineRead_4 : cX4_lineRead.data.toList.drop 82 = dktX4_lineRead_4 := dk_seg dksX4_lineRead_3 22 rfl rfl
theorem dksX4_lineRead_5 : cX4_lineRead.data.toList.drop 106 = dktX4_lineRead_5 := dk_seg dksX4_lineRead_4 24 rfl rfl
theorem dksX4_lineRead_6 : cX4_lineRead.data.toList.drop 129 = dktX4_lineRead_6 := dk_seg dksX4_lineRead_5 23 rfl rfl
theorem dX4_lineRead_0 : decode cX4_lineRead 0 = .ok (.aload_n 0, 1) := dk_42 (dk_at dksX4_lineRead_0 0 rfl rfl)
theorem dX4_lineRead_1 : decode cX4_lineRead 1 = .ok (.getfield 142, 3) := dk_180 0 142 (dk_at dksX4_lineRead_0 1 rfl rfl)
theorem dX4_lineRead_4 : decode cX4_lineRead 4 = .ok (.iconst 1, 1) := dk_4 (dk_at dksX4_lineRead_0 4 rfl rfl)
theorem dX4_lineRead_5 : decode cX4_lineRead 5 = .ok (.if_icmp .ne 12, 3) := dk_160 0 12 (dk_at dksX4_lineRead_0 5 rfl rfl)
theorem dX4_lineRead_8 : decode cX4_lineRead 8 = .ok (.aload_n 0, 1) := dk_42 (dk_at dksX4_lineRead_0 8 rfl rfl)
theorem dX4_lineRead_9 : decode cX4_lineRead 9 = .ok (.getfield 153, 3) := dk_180 0 153 (dk_at dksX4_lineRead_0 9 rfl rfl)
theorem dX4_lineRead_12 : decode cX4_lineRead 12 = .ok (.bipush 7, 2) := dk_16 7 (dk_at dksX4_lineRead_0 12 rfl rfl)
theorem dX4_lineRead_14 : decode cX4_lineRead 14 = .ok (.if_icmp .le 9, 3) := dk_164 0 9 (dk_at dksX4_lineRead_0 14 rfl rfl)
theorem dX4_lineRead_17 : decode cX4_lineRead 17 = .ok (.aload_n 0, 1) := dk_42 (dk_at dksX4_lineRead_0 17 rfl rfl)
theorem dX4_lineRead_18 : decode cX4_lineRead 18 = .ok (.iconst 1, 1) := dk_4 (dk_at dksX4_lineRead_0 18 rfl rfl)
theorem dX4_lineRead_19 : decode cX4_lineRead 19 = .ok (.invokevirtual 168, 3) := dk_182 0 168 (dk_at dksX4_lineRead_0 19 rfl rfl)
theorem dX4_lineRead_22 : decode cX4_lineRead 22 = .ok (.ireturn, 1) := dk_172 (dk_at dksX4_lineRead_0 22 rfl rfl)
theorem dX4_lineRead_23 : decode cX4_lineRead 23 = .ok (.aload_n 0, 1) := dk_42 (dk_at dksX4_lineRead_0 23 rfl rfl)
theorem dX4_lineRead_24 : decode cX4_lineRead 24 = .ok (.getfield 153, 3) := dk_180 0 153 (dk_at dksX4_lineRead_1 0 rfl rfl)
theorem dX4_lineRead_27 : decode cX4_lineRead 27 = .ok (.tableswitch 75 0 4 #[33, 41, 49, 58, 67], 33) := by decide +kernel
theorem dX4_lineRead_60 : decode cX4_lineRead 60 = .ok (.aload_n 0, 1) := dk_42 (dk_at dksX4_lineRead_3 0 rfl rfl)
theorem dX4_lineRead_61 : decode cX4_lineRead 61 = .ok (.invokevirtual 290, 3) := dk_182 1 34 (dk_at dksX4_lineRead_3 1 rfl rfl)
theorem dX4_lineRead_64 : decode cX4_lineRead 64 = .ok (.istore_n 1, 1) := dk_60 (dk_at dksX4_lineRead_3 4 rfl rfl)
theorem dX4_lineRead_65 : decode cX4_lineRead 65 = .ok (.goto 42, 3) := dk_167 0 42 (dk_at dksX4_lineRead_3 5 rfl rfl)
theorem dX4_lineRead_68 : decode cX4_lineRead 68 = .ok (.aload_n 0, 1) := dk_42 (dk_at dksX4_lineRead_3 8 rfl rfl)
theorem dX4_lineRead_69 : decode cX4_lineRead 69 = .ok (.invokevirtual 293, 3) := dk_182 1 37 (dk_at dksX4_lineRead_3 9 rfl rfl)
theorem dX4_lineRead_72 : decode cX4_lineRead 72 = .ok (.istore_n 1, 1) := dk_60 (dk_at dksX4_lineRead_3 12 rfl rfl)
theorem dX4_lineRead_73 : decode cX4_lineRead 73 = .ok (.goto 34, 3) := dk_167 0 34 (dk_at dksX4_lineRead_3 13 rfl rfl)
theorem dX4_lineRead_76 : decode cX4_lineRead 76 = .ok (.aload_n 0, 1) := dk_42 (dk_at dksX4_lineRead_3 16 rfl rfl)
theorem dX4_lineRead_77 : decode cX4_lineRead 77 = .ok (.iconst 0, 1) := dk_3 (dk_at dksX4_lineRead_3 17 rfl rfl)
theorem dX4_lineRead_78 : decode cX4_lineRead 78 = .ok (.invokevirtual 296, 3) := dk_182 1 40 (dk_at dksX4_lineRead_3 18 rfl rfl)
theorem dX4_lineRead_81 : decode cX4_lineRead 81 = .ok (.istore_n 1, 1) := dk_60 (dk_at dksX4_lineRead_3 21 rfl rfl)
theorem dX4_lineRead_82 : decode cX4_lineRead 82 = .ok (.goto 25, 3) := dk_167 0 25 (dk_at dksX4_lineRead_4 0 rfl rfl)
theorem dX4_lineRead_85 : decode cX4_lineRead 85 = .ok (.aload_n 0, 1) := dk_42 (dk_at dksX4_lineRead_4 3 rfl rfl)
theorem dX4_lineRead_86 : decode cX4_lineRead 86 = .ok (.iconst 1, 1) := dk_4 (dk_at dksX4_lineRead_4 4 rfl rfl)
theorem dX4_lineRead_87 : decode cX4_lineRead 87 = .ok (.invokevirtual 296, 3) := dk_182 1 40 (dk_at dksX4_lineRead_4 5 rfl rfl)
theorem dX4_lineRead_90 : decode cX4_lineRead 90 = .ok (.istore_n 1, 1) := dk_60 (dk_at dksX4_lineRead_4 8 rfl rfl)
theorem dX4_lineRead_91 : decode cX4_lineRead 91 = .ok (.goto 16, 3) := dk_167 0 16 (dk_at dksX4_lineRead_4 9 rfl rfl)
theorem dX4_lineRead_94 : decode cX4_lineRead 94 = .ok (.aload_n 0, 1) := dk_42 (dk_at dksX4_lineRead_4 12 rfl rfl)
theorem dX4_lineRead_95 : decode cX4_lineRead 95 = .ok (.invokevirtual 300, 3) := dk_182 1 44 (dk_at dksX4_lineRead_4 13 rfl rfl)
theorem dX4_lineRead_98 : decode cX4_lineRead 98 = .ok (.istore_n 1, 1) := dk_60 (dk_at dksX4_lineRead_4 16 rfl rfl)
theorem dX4_lineRead_99 : decode cX4_lineRead 99 = .ok (.goto 8, 3) := dk_167 0 8 (dk_at dksX4_lineRead_4 17 rfl rfl)
theorem dX4_lineRead_102 : decode cX4_lineRead 102 = .ok (.aload_n 0, 1) := dk_42 (dk_at dksX4_lineRead_4 20 rfl rfl)
theorem dX4_lineRead_103 : decode cX4_lineRead 103 = .ok (.invokevirtual 303, 3) := dk_182 1 47 (dk_at dksX4_lineRead_4 21 rfl rfl)
theorem dX4_lineRead_106 : decode cX4_lineRead 106 = .ok (.istore_n 1, 1) := dk_60 (dk_at dksX4_lineRead_5 0 rfl rfl)
theorem dX4_lineRead_107 : decode cX4_lineRead 107 = .ok (.iload_n 1, 1) := dk_27 (dk_at dksX4_lineRead_5 1 rfl rfl)
theorem dX4_lineRead_108 : decode cX4_lineRead 108 = .ok (.ifCond .ne 5, 3) := dk_154 0 5 (dk_at dksX4_lineRead_5 2 rfl rfl)
theorem dX4_lineRead_111 : decode cX4_lineRead 111 = .ok (.iconst 0, 1) := dk_3 (dk_at dksX4_lineRead_5 5 rfl rfl)
theorem dX4_lineRead_112 : decode cX4_lineRead 112 = .ok (.ireturn, 1) := dk_172 (dk_at dksX4_lineRead_5 6 rfl rfl)
theorem dX4_lineRead_113 : decode cX4_lineRead 113 = .ok (.aload_n 0, 1) := dk_42 (dk_at dksX4_lineRead_5 7 rfl rfl)
theorem dX4_lineRead_114 : decode cX4_lineRead 114 = .ok (.bipush 59, 2) := dk_16 59 (dk_at dksX4_lineRead_5 8 rfl rfl)
theorem dX4_lineRead_116 : decode cX4_lineRead 116 = .ok (.invokevirtual 260, 3) := dk_182 1 4 (dk_at dksX4_lineRead_5 10 rfl rfl)
theorem dX4_lineRead_119 : decode cX4_lineRead 119 = .ok (.ifCond .ne 9, 3) := dk_154 0 9 (dk_at dksX4_lineRead_5 13 rfl rfl)
theorem dX4_lineRead_122 : decode cX4_lineRead 122 = .ok (.aload_n 0, 1) := dk_42 (dk_at dksX4_lineRead_5 16 rfl rfl)
theorem dX4_lineRead_123 : decode cX4_lineRead 123 = .ok (.iconst 1, 1) := dk_4 (dk_at dksX4_lineRead_5 17 rfl rfl)
theorem dX4_lineRead_124 : decode cX4_lineRead 124 = .ok (.invokevirtual 168, 3) := dk_182 0 168 (dk_at dksX4_lineRead_5 18 rfl rfl)
theorem dX4_lineRead_127 : decode cX4_lineRead 127 = .ok (.ireturn, 1) := dk_172 (dk_at dksX4_lineRead_5 21 rfl rfl)
theorem dX4_lineRead_128 : decode cX4_lineRead 128 = .ok (.aload_n 0, 1) := dk_42 (dk_at dksX4_lineRead_5 22 rfl rfl)
theorem dX4_lineRead_129 : decode cX4_lineRead 129 = .ok (.invokevirtual 171, 3) := dk_182 0 171 (dk_at dksX4_lineRead_6 0 rfl rfl)
theorem dX4_lineRead_132 : decode cX4_lineRead 132 = .ok (.iconst 1, 1) := dk_4 (dk_at dksX4_lineRead_6 3 rfl rfl)
theorem dX4_lineRead_133 : decode cX4_lineRead 133 = .ok (.ireturn, 1) := dk_172 (dk_at dksX4_lineRead_6 4 rfl rfl)
abbrev cX4_wrong : ByteArray := prog_18_method_7_code
def yX4_wrong : MethodName := ⟨RX4, "wrong", "(I)Z"⟩
def dkwX4_wrong_0 : List UInt8 := [42, 27, 181, 0, 130, 42, 42, 180, 0, 133, 181, 0, 16, 3, 172]
abbrev dktX4_wrong_0 : List UInt8 := dkwX4_wrong_0 ++ []
theorem dksX4_wrong_0 : cX4_wrong.data.toList.drop 0 = dktX4_wrong_0 := by decide +kernel
theorem dX4_wrong_0 : decode cX4_wrong 0 = .ok (.aload_n 0, 1) := dk_42 (dk_at dksX4_wrong_0 0 rfl rfl)
theorem dX4_wrong_1 : decode cX4_wrong 1 = .ok (.iload_n 1, 1) := dk_27 (dk_at dksX4_wrong_0 1 rfl rfl)
theorem dX4_wrong_2 : decode cX4_wrong 2 = .ok (.putfield 130, 3) := dk_181 0 130 (dk_at dksX4_wrong_0 2 rfl rfl)
theorem dX4_wrong_5 : decode cX4_wrong 5 = .ok (.aload_n 0, 1) := dk_42 (dk_at dksX4_wrong_0 5 rfl rfl)
theorem dX4_wrong_6 : decode cX4_wrong 6 = .ok (.aload_n 0, 1) := dk_42 (dk_at dksX4_wrong_0 6 rfl rfl)
theorem dX4_wrong_7 : decode cX4_wrong 7 = .ok (.getfield 133, 3) := dk_180 0 133 (dk_at dksX4_wrong_0 7 rfl rfl)
theorem dX4_wrong_10 : decode cX4_wrong 10 = .ok (.putfield 16, 3) := dk_181 0 16 (dk_at dksX4_wrong_0 10 rfl rfl)
theorem dX4_wrong_13 : decode cX4_wrong 13 = .ok (.iconst 0, 1) := dk_3 (dk_at dksX4_wrong_0 13 rfl rfl)
theorem dX4_wrong_14 : decode cX4_wrong 14 = .ok (.ireturn, 1) := dk_172 (dk_at dksX4_wrong_0 14 rfl rfl)
abbrev cX4_thingLine : ByteArray := prog_18_method_23_code
def yX4_thingLine : MethodName := ⟨RX4, "thingLine", "()Z"⟩
def dkwX4_thingLine_11 : List UInt8 := [89, 180, 0, 174, 4, 96, 181, 0, 174, 4, 172]
abbrev dktX4_thingLine_11 : List UInt8 := dkwX4_thingLine_11 ++ []
def dkwX4_thingLine_10 : List UInt8 := [180, 0, 32, 27, 42, 180, 0, 153, 79, 42, 182, 0, 171, 167, 255, 147, 42, 180, 0, 20, 27, 28, 79, 42]
abbrev dktX4_thingLine_10 : List UInt8 := dkwX4_thingLine_10 ++ dktX4_thingLine_11
def dkwX4_thingLine_9 : List UInt8 := [154, 0, 5, 3, 172, 29, 153, 0, 16, 42, 180, 0, 29, 27, 42, 180, 0, 153, 79, 167, 0, 13, 42]
abbrev dktX4_thingLine_9 : List UInt8 := dkwX4_thingLine_9 ++ dktX4_thingLine_10
def dkwX4_thingLine_8 : List UInt8 := [46, 155, 0, 9, 42, 6, 182, 0, 168, 172, 42, 182, 0, 171, 42, 3, 17, 0, 199, 182, 0, 228]
abbrev dktX4_thingLine_8 : List UInt8 := dkwX4_thingLine_8 ++ dktX4_thingLine_9
def dkwX4_thingLine_7 : List UInt8 := [4, 167, 0, 4, 3, 62, 29, 153, 0, 12, 42, 180, 0, 29, 27, 46, 167, 0, 9, 42, 180, 0, 32, 27]
abbrev dktX4_thingLine_7 : List UInt8 := dkwX4_thingLine_7 ++ dktX4_thingLine_8
def dkwX4_thingLine_6 : List UInt8 := [182, 0, 165, 154, 0, 12, 42, 16, 10, 182, 0, 165, 153, 0, 97, 42, 180, 0, 153, 16, 9, 160, 0, 7]
abbrev dktX4_thingLine_6 : List UInt8 := dkwX4_thingLine_6 ++ dktX4_thingLine_7
def dkwX4_thingLine_5 : List UInt8 := [79, 42, 180, 0, 29, 27, 2, 79, 42, 180, 0, 32, 27, 2, 79, 42, 182, 0, 171, 42, 16, 9]
abbrev dktX4_thingLine_5 : List UInt8 := dkwX4_thingLine_5 ++ dktX4_thingLine_6
def dkwX4_thingLine_4 : List UInt8 := [180, 0, 23, 27, 46, 4, 100, 182, 0, 228, 154, 0, 5, 3, 172, 42, 180, 0, 26, 27, 42, 180, 0, 153]
abbrev dktX4_thingLine_4 : List UInt8 := dkwX4_thingLine_4 ++ dktX4_thingLine_5
def dkwX4_thingLine_3 : List UInt8 := [27, 42, 180, 0, 153, 79, 42, 182, 0, 171, 42, 16, 8, 182, 0, 232, 153, 0, 19, 42, 3, 42]
abbrev dktX4_thingLine_3 : List UInt8 := dkwX4_thingLine_3 ++ dktX4_thingLine_4
def dkwX4_thingLine_2 : List UInt8 := [180, 0, 153, 61, 42, 182, 0, 171, 42, 5, 16, 9, 182, 0, 228, 154, 0, 5, 3, 172, 42, 180, 0, 23]
abbrev dktX4_thingLine_2 : List UInt8 := dkwX4_thingLine_2 ++ dktX4_thingLine_3
def dkwX4_thingLine_1 : List UInt8 := [16, 8, 42, 180, 0, 174, 182, 0, 224, 154, 0, 5, 3, 172, 16, 8, 42, 180, 0, 174, 96, 60, 42]
abbrev dktX4_thingLine_1 : List UInt8 := dkwX4_thingLine_1 ++ dktX4_thingLine_2
def dkwX4_thingLine_0 : List UInt8 := [42, 180, 0, 174, 16, 8, 160, 0, 9, 42, 5, 182, 0, 168, 172, 42, 182, 0, 171, 42, 42, 180, 0, 20]
abbrev dktX4_thingLine_0 : List UInt8 := dkwX4_thingLine_0 ++ dktX4_thingLine_1
theorem dksX4_thingLine_0 : cX4_thingLine.data.toList.drop 0 = dktX4_thingLine_0 := by decide +kernel
theorem dksX4_thingLine_1 : cX4_thingLine.data.toList.drop 24 = dktX4_thingLine_1 := dk_seg dksX4_thingLine_0 24 rfl rfl
theorem dksX4_thingLine_2 : cX4_thingLine.data.toList.drop 47 = dktX4_thingLine_2 := dk_seg dksX4_thingLine_1 23 rfl rfl
theorem dksX4_thingLine_3 : cX4_thingLine.data.toList.drop 71 = dktX4_thingLine_3 := dk_seg dksX4_thingLine_2 24 rfl rfl
theorem dksX4_thingLine_4 : cX4_thingLine.data.toList.drop 93 = dktX4_thingLine_4 := dk_seg dksX4_thingLine_3 22 rfl rfl
theorem dksX4_thingLine_5 : cX4_thingLine.data.toList.drop 117 = dktX4_thingLine_5 := dk_seg dksX4_thingLine_4 24 rfl rfl
theorem dksX4_thingLine_6 : cX4_thingLine.data.toList.drop 139 = dktX4_thingLine_6 := dk_seg dksX4_thingLine_5 22 rfl rfl
theorem dksX4_thingLine_7 : cX4_thingLine.data.toList.drop 163 = dktX4_thingLine_7 := dk_seg dksX4_thingLine_6 24 rfl rfl
theorem dksX4_thingLine_8 : cX4_thingLine.data.toList.drop 187 = dktX4_thingLine_8 := dk_seg dksX4_thingLine_7 24 rfl rfl
theorem dksX4_thingLine_9 : cX4_thingLine.data.toList.drop 209 = dktX4_thingLine_9 := dk_seg dksX4_thingLine_8 22 rfl rfl
theorem dksX4_thingLine_10 : cX4_thingLine.data.toList.drop 232 = dktX4_thingLine_10 := dk_seg dksX4_thingLine_9 23 rfl rfl
theorem dksX4_thingLine_11 : cX4_thingLine.data.toList.drop 256 = dktX4_thingLine_11 := dk_seg dksX4_thingLine_10 24 rfl rfl
theorem dX4_thingLine_0 : decode cX4_thingLine 0 = .ok (.aload_n 0, 1) := dk_42 (dk_at dksX4_thingLine_0 0 rfl rfl)
theorem dX4_thingLine_1 : decode cX4_thingLine 1 = .ok (.getfield 174, 3) := dk_180 0 174 (dk_at dksX4_thingLine_0 1 rfl rfl)
theorem dX4_thingLine_4 : decode cX4_thingLine 4 = .ok (.bipush 8, 2) := dk_16 8 (dk_at dksX4_thingLine_0 4 rfl rfl)
theorem dX4_thingLine_6 : decode cX4_thingLine 6 = .ok (.if_icmp .ne 9, 3) := dk_160 0 9 (dk_at dksX4_thingLine_0 6 rfl rfl)
theorem dX4_thingLine_9 : decode cX4_thingLine 9 = .ok (.aload_n 0, 1) := dk_42 (dk_at dksX4_thingLine_0 9 rfl rfl)
theorem dX4_thingLine_10 : decode cX4_thingLine 10 = .ok (.iconst 2, 1) := dk_5 (dk_at dksX4_thingLine_0 10 rfl rfl)
theorem dX4_thingLine_11 : decode cX4_thingLine 11 = .ok (.invokevirtual 168, 3) := dk_182 0 168 (dk_at dksX4_thingLine_0 11 rfl rfl)
theorem dX4_thingLine_14 : decode cX4_thingLine 14 = .ok (.ireturn, 1) := dk_172 (dk_at dksX4_thingLine_0 14 rfl rfl)
theorem dX4_thingLine_15 : decode cX4_thingLine 15 = .ok (.aload_n 0, 1) := dk_42 (dk_at dksX4_thingLine_0 15 rfl rfl)
theorem dX4_thingLine_16 : decode cX4_thingLine 16 = .ok (.invokevirtual 171, 3) := dk_182 0 171 (dk_at dksX4_thingLine_0 16 rfl rfl)
theorem dX4_thingLine_19 : decode cX4_thingLine 19 = .ok (.aload_n 0, 1) := dk_42 (dk_at dksX4_thingLine_0 19 rfl rfl)
theorem dX4_thingLine_20 : decode cX4_thingLine 20 = .ok (.aload_n 0, 1) := dk_42 (dk_at dksX4_thingLine_0 20 rfl rfl)
theorem dX4_thingLine_21 : decode cX4_thingLine 21 = .ok (.getfield 20, 3) := dk_180 0 20 (dk_at dksX4_thingLine_0 21 rfl rfl)
theorem dX4_thingLine_24 : decode cX4_thingLine 24 = .ok (.bipush 8, 2) := dk_16 8 (dk_at dksX4_thingLine_1 0 rfl rfl)
theorem dX4_thingLine_26 : decode cX4_thingLine 26 = .ok (.aload_n 0, 1) := dk_42 (dk_at dksX4_thingLine_1 2 rfl rfl)
theorem dX4_thingLine_27 : decode cX4_thingLine 27 = .ok (.getfield 174, 3) := dk_180 0 174 (dk_at dksX4_thingLine_1 3 rfl rfl)
theorem dX4_thingLine_30 : decode cX4_thingLine 30 = .ok (.invokevirtual 224, 3) := dk_182 0 224 (dk_at dksX4_thingLine_1 6 rfl rfl)
theorem dX4_thingLine_33 : decode cX4_thingLine 33 = .ok (.ifCond .ne 5, 3) := dk_154 0 5 (dk_at dksX4_thingLine_1 9 rfl rfl)
theorem dX4_thingLine_36 : decode cX4_thingLine 36 = .ok (.iconst 0, 1) := dk_3 (dk_at dksX4_thingLine_1 12 rfl rfl)
theorem dX4_thingLine_37 : decode cX4_thingLine 37 = .ok (.ireturn, 1) := dk_172 (dk_at dksX4_thingLine_1 13 rfl rfl)
theorem dX4_thingLine_38 : decode cX4_thingLine 38 = .ok (.bipush 8, 2) := dk_16 8 (dk_at dksX4_thingLine_1 14 rfl rfl)
theorem dX4_thingLine_40 : decode cX4_thingLine 40 = .ok (.aload_n 0, 1) := dk_42 (dk_at dksX4_thingLine_1 16 rfl rfl)
theorem dX4_thingLine_41 : decode cX4_thingLine 41 = .ok (.getfield 174, 3) := dk_180 0 174 (dk_at dksX4_thingLine_1 17 rfl rfl)
theorem dX4_thingLine_44 : decode cX4_thingLine 44 = .ok (.iadd, 1) := dk_96 (dk_at dksX4_thingLine_1 20 rfl rfl)
theorem dX4_thingLine_45 : decode cX4_thingLine 45 = .ok (.istore_n 1, 1) := dk_60 (dk_at dksX4_thingLine_1 21 rfl rfl)
theorem dX4_thingLine_46 : decode cX4_thingLine 46 = .ok (.aload_n 0, 1) := dk_42 (dk_at dksX4_thingLine_1 22 rfl rfl)
theorem dX4_thingLine_47 : decode cX4_thingLine 47 = .ok (.getfield 153, 3) := dk_180 0 153 (dk_at dksX4_thingLine_2 0 rfl rfl)
theorem dX4_thingLine_50 : decode cX4_thingLine 50 = .ok (.istore_n 2, 1) := dk_61 (dk_at dksX4_thingLine_2 3 rfl rfl)
theorem dX4_thingLine_51 : decode cX4_thingLine 51 = .ok (.aload_n 0, 1) := dk_42 (dk_at dksX4_thingLine_2 4 rfl rfl)
theorem dX4_thingLine_52 : decode cX4_thingLine 52 = .ok (.invokevirtual 171, 3) := dk_182 0 171 (dk_at dksX4_thingLine_2 5 rfl rfl)
theorem dX4_thingLine_55 : decode cX4_thingLine 55 = .ok (.aload_n 0, 1) := dk_42 (dk_at dksX4_thingLine_2 8 rfl rfl)
theorem dX4_thingLine_56 : decode cX4_thingLine 56 = .ok (.iconst 2, 1) := dk_5 (dk_at dksX4_thingLine_2 9 rfl rfl)
theorem dX4_thingLine_57 : decode cX4_thingLine 57 = .ok (.bipush 9, 2) := dk_16 9 (dk_at dksX4_thingLine_2 10 rfl rfl)
theorem dX4_thingLine_59 : decode cX4_thingLine 59 = .ok (.invokevirtual 228, 3) := dk_182 0 228 (dk_at dksX4_thingLine_2 12 rfl rfl)
theorem dX4_thingLine_62 : decode cX4_thingLine 62 = .ok (.ifCond .ne 5, 3) := dk_154 0 5 (dk_at dksX4_thingLine_2 15 rfl rfl)
theorem dX4_thingLine_65 : decode cX4_thingLine 65 = .ok (.iconst 0, 1) := dk_3 (dk_at dksX4_thingLine_2 18 rfl rfl)
theorem dX4_thingLine_66 : decode cX4_thingLine 66 = .ok (.ireturn, 1) := dk_172 (dk_at dksX4_thingLine_2 19 rfl rfl)
theorem dX4_thingLine_67 : decode cX4_thingLine 67 = .ok (.aload_n 0, 1) := dk_42 (dk_at dksX4_thingLine_2 20 rfl rfl)
theorem dX4_thingLine_68 : decode cX4_thingLine 68 = .ok (.getfield 23, 3) := dk_180 0 23 (dk_at dksX4_thingLine_2 21 rfl rfl)
theorem dX4_thingLine_71 : decode cX4_thingLine 71 = .ok (.iload_n 1, 1) := dk_27 (dk_at dksX4_thingLine_3 0 rfl rfl)
theorem dX4_thingLine_72 : decode cX4_thingLine 72 = .ok (.aload_n 0, 1) := dk_42 (dk_at dksX4_thingLine_3 1 rfl rfl)
theorem dX4_thingLine_73 : decode cX4_thingLine 73 = .ok (.getfield 153, 3) := dk_180 0 153 (dk_at dksX4_thingLine_3 2 rfl rfl)
theorem dX4_thingLine_76 : decode cX4_thingLine 76 = .ok (.iastore, 1) := dk_79 (dk_at dksX4_thingLine_3 5 rfl rfl)
theorem dX4_thingLine_77 : decode cX4_thingLine 77 = .ok (.aload_n 0, 1) := dk_42 (dk_at dksX4_thingLine_3 6 rfl rfl)
theorem dX4_thingLine_78 : decode cX4_thingLine 78 = .ok (.invokevirtual 171, 3) := dk_182 0 171 (dk_at dksX4_thingLine_3 7 rfl rfl)
theorem dX4_thingLine_81 : decode cX4_thingLine 81 = .ok (.aload_n 0, 1) := dk_42 (dk_at dksX4_thingLine_3 10 rfl rfl)
theorem dX4_thingLine_82 : decode cX4_thingLine 82 = .ok (.bipush 8, 2) := dk_16 8 (dk_at dksX4_thingLine_3 11 rfl rfl)
theorem dX4_thingLine_84 : decode cX4_thingLine 84 = .ok (.invokevirtual 232, 3) := dk_182 0 232 (dk_at dksX4_thingLine_3 13 rfl rfl)
theorem dX4_thingLine_87 : decode cX4_thingLine 87 = .ok (.ifCond .eq 19, 3) := dk_153 0 19 (dk_at dksX4_thingLine_3 16 rfl rfl)
theorem dX4_thingLine_90 : decode cX4_thingLine 90 = .ok (.aload_n 0, 1) := dk_42 (dk_at dksX4_thingLine_3 19 rfl rfl)
theorem dX4_thingLine_91 : decode cX4_thingLine 91 = .ok (.iconst 0, 1) := dk_3 (dk_at dksX4_thingLine_3 20 rfl rfl)
theorem dX4_thingLine_92 : decode cX4_thingLine 92 = .ok (.aload_n 0, 1) := dk_42 (dk_at dksX4_thingLine_3 21 rfl rfl)
theorem dX4_thingLine_93 : decode cX4_thingLine 93 = .ok (.getfield 23, 3) := dk_180 0 23 (dk_at dksX4_thingLine_4 0 rfl rfl)
theorem dX4_thingLine_96 : decode cX4_thingLine 96 = .ok (.iload_n 1, 1) := dk_27 (dk_at dksX4_thingLine_4 3 rfl rfl)
theorem dX4_thingLine_97 : decode cX4_thingLine 97 = .ok (.iaload, 1) := dk_46 (dk_at dksX4_thingLine_4 4 rfl rfl)
theorem dX4_thingLine_98 : decode cX4_thingLine 98 = .ok (.iconst 1, 1) := dk_4 (dk_at dksX4_thingLine_4 5 rfl rfl)
theorem dX4_thingLine_99 : decode cX4_thingLine 99 = .ok (.isub, 1) := dk_100 (dk_at dksX4_thingLine_4 6 rfl rfl)
theorem dX4_thingLine_100 : decode cX4_thingLine 100 = .ok (.invokevirtual 228, 3) := dk_182 0 228 (dk_at dksX4_thingLine_4 7 rfl rfl)
theorem dX4_thingLine_103 : decode cX4_thingLine 103 = .ok (.ifCond .ne 5, 3) := dk_154 0 5 (dk_at dksX4_thingLine_4 10 rfl rfl)
theorem dX4_thingLine_106 : decode cX4_thingLine 106 = .ok (.iconst 0, 1) := dk_3 (dk_at dksX4_thingLine_4 13 rfl rfl)
theorem dX4_thingLine_107 : decode cX4_thingLine 107 = .ok (.ireturn, 1) := dk_172 (dk_at dksX4_thingLine_4 14 rfl rfl)
theorem dX4_thingLine_108 : decode cX4_thingLine 108 = .ok (.aload_n 0, 1) := dk_42 (dk_at dksX4_thingLine_4 15 rfl rfl)
theorem dX4_thingLine_109 : decode cX4_thingLine 109 = .ok (.getfield 26, 3) := dk_180 0 26 (dk_at dksX4_thingLine_4 16 rfl rfl)
theorem dX4_thingLine_112 : decode cX4_thingLine 112 = .ok (.iload_n 1, 1) := dk_27 (dk_at dksX4_thingLine_4 19 rfl rfl)
theorem dX4_thingLine_113 : decode cX4_thingLine 113 = .ok (.aload_n 0, 1) := dk_42 (dk_at dksX4_thingLine_4 20 rfl rfl)
theorem dX4_thingLine_114 : decode cX4_thingLine 114 = .ok (.getfield 153, 3) := dk_180 0 153 (dk_at dksX4_thingLine_4 21 rfl rfl)
theorem dX4_thingLine_117 : decode cX4_thingLine 117 = .ok (.iastore, 1) := dk_79 (dk_at dksX4_thingLine_5 0 rfl rfl)
theorem dX4_thingLine_118 : decode cX4_thingLine 118 = .ok (.aload_n 0, 1) := dk_42 (dk_at dksX4_thingLine_5 1 rfl rfl)
theorem dX4_thingLine_119 : decode cX4_thingLine 119 = .ok (.getfield 29, 3) := dk_180 0 29 (dk_at dksX4_thingLine_5 2 rfl rfl)
theorem dX4_thingLine_122 : decode cX4_thingLine 122 = .ok (.iload_n 1, 1) := dk_27 (dk_at dksX4_thingLine_5 5 rfl rfl)
theorem dX4_thingLine_123 : decode cX4_thingLine 123 = .ok (.iconst (-1), 1) := dk_2 (dk_at dksX4_thingLine_5 6 rfl rfl)
theorem dX4_thingLine_124 : decode cX4_thingLine 124 = .ok (.iastore, 1) := dk_79 (dk_at dksX4_thingLine_5 7 rfl rfl)
theorem dX4_thingLine_125 : decode cX4_thingLine 125 = .ok (.aload_n 0, 1) := dk_42 (dk_at dksX4_thingLine_5 8 rfl rfl)
theorem dX4_thingLine_126 : decode cX4_thingLine 126 = .ok (.getfield 32, 3) := dk_180 0 32 (dk_at dksX4_thingLine_5 9 rfl rfl)
theorem dX4_thingLine_129 : decode cX4_thingLine 129 = .ok (.iload_n 1, 1) := dk_27 (dk_at dksX4_thingLine_5 12 rfl rfl)
theorem dX4_thingLine_130 : decode cX4_thingLine 130 = .ok (.iconst (-1), 1) := dk_2 (dk_at dksX4_thingLine_5 13 rfl rfl)
theorem dX4_thingLine_131 : decode cX4_thingLine 131 = .ok (.iastore, 1) := dk_79 (dk_at dksX4_thingLine_5 14 rfl rfl)
theorem dX4_thingLine_132 : decode cX4_thingLine 132 = .ok (.aload_n 0, 1) := dk_42 (dk_at dksX4_thingLine_5 15 rfl rfl)
theorem dX4_thingLine_133 : decode cX4_thingLine 133 = .ok (.invokevirtual 171, 3) := dk_182 0 171 (dk_at dksX4_thingLine_5 16 rfl rfl)
theorem dX4_thingLine_136 : decode cX4_thingLine 136 = .ok (.aload_n 0, 1) := dk_42 (dk_at dksX4_thingLine_5 19 rfl rfl)
theorem dX4_thingLine_137 : decode cX4_thingLine 137 = .ok (.bipush 9, 2) := dk_16 9 (dk_at dksX4_thingLine_5 20 rfl rfl)
theorem dX4_thingLine_139 : decode cX4_thingLine 139 = .ok (.invokevirtual 165, 3) := dk_182 0 165 (dk_at dksX4_thingLine_6 0 rfl rfl)
theorem dX4_thingLine_142 : decode cX4_thingLine 142 = .ok (.ifCond .ne 12, 3) := dk_154 0 12 (dk_at dksX4_thingLine_6 3 rfl rfl)
theorem dX4_thingLine_145 : decode cX4_thingLine 145 = .ok (.aload_n 0, 1) := dk_42 (dk_at dksX4_thingLine_6 6 rfl rfl)
theorem dX4_thingLine_146 : decode cX4_thingLine 146 = .ok (.bipush 10, 2) := dk_16 10 (dk_at dksX4_thingLine_6 7 rfl rfl)
theorem dX4_thingLine_148 : decode cX4_thingLine 148 = .ok (.invokevirtual 165, 3) := dk_182 0 165 (dk_at dksX4_thingLine_6 9 rfl rfl)
theorem dX4_thingLine_151 : decode cX4_thingLine 151 = .ok (.ifCond .eq 97, 3) := dk_153 0 97 (dk_at dksX4_thingLine_6 12 rfl rfl)
theorem dX4_thingLine_154 : decode cX4_thingLine 154 = .ok (.aload_n 0, 1) := dk_42 (dk_at dksX4_thingLine_6 15 rfl rfl)
theorem dX4_thingLine_155 : decode cX4_thingLine 155 = .ok (.getfield 153, 3) := dk_180 0 153 (dk_at dksX4_thingLine_6 16 rfl rfl)
theorem dX4_thingLine_158 : decode cX4_thingLine 158 = .ok (.bipush 9, 2) := dk_16 9 (dk_at dksX4_thingLine_6 19 rfl rfl)
theorem dX4_thingLine_160 : decode cX4_thingLine 160 = .ok (.if_icmp .ne 7, 3) := dk_160 0 7 (dk_at dksX4_thingLine_6 21 rfl rfl)
theorem dX4_thingLine_163 : decode cX4_thingLine 163 = .ok (.iconst 1, 1) := dk_4 (dk_at dksX4_thingLine_7 0 rfl rfl)
theorem dX4_thingLine_164 : decode cX4_thingLine 164 = .ok (.goto 4, 3) := dk_167 0 4 (dk_at dksX4_thingLine_7 1 rfl rfl)
theorem dX4_thingLine_167 : decode cX4_thingLine 167 = .ok (.iconst 0, 1) := dk_3 (dk_at dksX4_thingLine_7 4 rfl rfl)
theorem dX4_thingLine_168 : decode cX4_thingLine 168 = .ok (.istore_n 3, 1) := dk_62 (dk_at dksX4_thingLine_7 5 rfl rfl)
theorem dX4_thingLine_169 : decode cX4_thingLine 169 = .ok (.iload_n 3, 1) := dk_29 (dk_at dksX4_thingLine_7 6 rfl rfl)
theorem dX4_thingLine_170 : decode cX4_thingLine 170 = .ok (.ifCond .eq 12, 3) := dk_153 0 12 (dk_at dksX4_thingLine_7 7 rfl rfl)
theorem dX4_thingLine_173 : decode cX4_thingLine 173 = .ok (.aload_n 0, 1) := dk_42 (dk_at dksX4_thingLine_7 10 rfl rfl)
theorem dX4_thingLine_174 : decode cX4_thingLine 174 = .ok (.getfield 29, 3) := dk_180 0 29 (dk_at dksX4_thingLine_7 11 rfl rfl)
theorem dX4_thingLine_177 : decode cX4_thingLine 177 = .ok (.iload_n 1, 1) := dk_27 (dk_at dksX4_thingLine_7 14 rfl rfl)
theorem dX4_thingLine_178 : decode cX4_thingLine 178 = .ok (.iaload, 1) := dk_46 (dk_at dksX4_thingLine_7 15 rfl rfl)
theorem dX4_thingLine_179 : decode cX4_thingLine 179 = .ok (.goto 9, 3) := dk_167 0 9 (dk_at dksX4_thingLine_7 16 rfl rfl)
theorem dX4_thingLine_182 : decode cX4_thingLine 182 = .ok (.aload_n 0, 1) := dk_42 (dk_at dksX4_thingLine_7 19 rfl rfl)
theorem dX4_thingLine_183 : decode cX4_thingLine 183 = .ok (.getfield 32, 3) := dk_180 0 32 (dk_at dksX4_thingLine_7 20 rfl rfl)
theorem dX4_thingLine_186 : decode cX4_thingLine 186 = .ok (.iload_n 1, 1) := dk_27 (dk_at dksX4_thingLine_7 23 rfl rfl)
theorem dX4_thingLine_187 : decode cX4_thingLine 187 = .ok (.iaload, 1) := dk_46 (dk_at dksX4_thingLine_8 0 rfl rfl)
theorem dX4_thingLine_188 : decode cX4_thingLine 188 = .ok (.ifCond .lt 9, 3) := dk_155 0 9 (dk_at dksX4_thingLine_8 1 rfl rfl)
theorem dX4_thingLine_191 : decode cX4_thingLine 191 = .ok (.aload_n 0, 1) := dk_42 (dk_at dksX4_thingLine_8 4 rfl rfl)
theorem dX4_thingLine_192 : decode cX4_thingLine 192 = .ok (.iconst 3, 1) := dk_6 (dk_at dksX4_thingLine_8 5 rfl rfl)
theorem dX4_thingLine_193 : decode cX4_thingLine 193 = .ok (.invokevirtual 168, 3) := dk_182 0 168 (dk_at dksX4_thingLine_8 6 rfl rfl)
theorem dX4_thingLine_196 : decode cX4_thingLine 196 = .ok (.ireturn, 1) := dk_172 (dk_at dksX4_thingLine_8 9 rfl rfl)
theorem dX4_thingLine_197 : decode cX4_thingLine 197 = .ok (.aload_n 0, 1) := dk_42 (dk_at dksX4_thingLine_8 10 rfl rfl)
theorem dX4_thingLine_198 : decode cX4_thingLine 198 = .ok (.invokevirtual 171, 3) := dk_182 0 171 (dk_at dksX4_thingLine_8 11 rfl rfl)
theorem dX4_thingLine_201 : decode cX4_thingLine 201 = .ok (.aload_n 0, 1) := dk_42 (dk_at dksX4_thingLine_8 14 rfl rfl)
theorem dX4_thingLine_202 : decode cX4_thingLine 202 = .ok (.iconst 0, 1) := dk_3 (dk_at dksX4_thingLine_8 15 rfl rfl)
theorem dX4_thingLine_203 : decode cX4_thingLine 203 = .ok (.sipush 199, 3) := dk_17 0 199 (dk_at dksX4_thingLine_8 16 rfl rfl)
theorem dX4_thingLine_206 : decode cX4_thingLine 206 = .ok (.invokevirtual 228, 3) := dk_182 0 228 (dk_at dksX4_thingLine_8 19 rfl rfl)
theorem dX4_thingLine_209 : decode cX4_thingLine 209 = .ok (.ifCond .ne 5, 3) := dk_154 0 5 (dk_at dksX4_thingLine_9 0 rfl rfl)
theorem dX4_thingLine_212 : decode cX4_thingLine 212 = .ok (.iconst 0, 1) := dk_3 (dk_at dksX4_thingLine_9 3 rfl rfl)
theorem dX4_thingLine_213 : decode cX4_thingLine 213 = .ok (.ireturn, 1) := dk_172 (dk_at dksX4_thingLine_9 4 rfl rfl)
theorem dX4_thingLine_214 : decode cX4_thingLine 214 = .ok (.iload_n 3, 1) := dk_29 (dk_at dksX4_thingLine_9 5 rfl rfl)
theorem dX4_thingLine_215 : decode cX4_thingLine 215 = .ok (.ifCond .eq 16, 3) := dk_153 0 16 (dk_at dksX4_thingLine_9 6 rfl rfl)
theorem dX4_thingLine_218 : decode cX4_thingLine 218 = .ok (.aload_n 0, 1) := dk_42 (dk_at dksX4_thingLine_9 9 rfl rfl)
theorem dX4_thingLine_219 : decode cX4_thingLine 219 = .ok (.getfield 29, 3) := dk_180 0 29 (dk_at dksX4_thingLine_9 10 rfl rfl)
theorem dX4_thingLine_222 : decode cX4_thingLine 222 = .ok (.iload_n 1, 1) := dk_27 (dk_at dksX4_thingLine_9 13 rfl rfl)
theorem dX4_thingLine_223 : decode cX4_thingLine 223 = .ok (.aload_n 0, 1) := dk_42 (dk_at dksX4_thingLine_9 14 rfl rfl)
theorem dX4_thingLine_224 : decode cX4_thingLine 224 = .ok (.getfield 153, 3) := dk_180 0 153 (dk_at dksX4_thingLine_9 15 rfl rfl)
theorem dX4_thingLine_227 : decode cX4_thingLine 227 = .ok (.iastore, 1) := dk_79 (dk_at dksX4_thingLine_9 18 rfl rfl)
theorem dX4_thingLine_228 : decode cX4_thingLine 228 = .ok (.goto 13, 3) := dk_167 0 13 (dk_at dksX4_thingLine_9 19 rfl rfl)
theorem dX4_thingLine_231 : decode cX4_thingLine 231 = .ok (.aload_n 0, 1) := dk_42 (dk_at dksX4_thingLine_9 22 rfl rfl)
theorem dX4_thingLine_232 : decode cX4_thingLine 232 = .ok (.getfield 32, 3) := dk_180 0 32 (dk_at dksX4_thingLine_10 0 rfl rfl)
theorem dX4_thingLine_235 : decode cX4_thingLine 235 = .ok (.iload_n 1, 1) := dk_27 (dk_at dksX4_thingLine_10 3 rfl rfl)
theorem dX4_thingLine_236 : decode cX4_thingLine 236 = .ok (.aload_n 0, 1) := dk_42 (dk_at dksX4_thingLine_10 4 rfl rfl)
theorem dX4_thingLine_237 : decode cX4_thingLine 237 = .ok (.getfield 153, 3) := dk_180 0 153 (dk_at dksX4_thingLine_10 5 rfl rfl)
theorem dX4_thingLine_240 : decode cX4_thingLine 240 = .ok (.iastore, 1) := dk_79 (dk_at dksX4_thingLine_10 8 rfl rfl)
theorem dX4_thingLine_241 : decode cX4_thingLine 241 = .ok (.aload_n 0, 1) := dk_42 (dk_at dksX4_thingLine_10 9 rfl rfl)
theorem dX4_thingLine_242 : decode cX4_thingLine 242 = .ok (.invokevirtual 171, 3) := dk_182 0 171 (dk_at dksX4_thingLine_10 10 rfl rfl)
theorem dX4_thingLine_245 : decode cX4_thingLine 245 = .ok (.goto (-109), 3) := dk_167 255 147 (dk_at dksX4_thingLine_10 13 rfl rfl)
theorem dX4_thingLine_248 : decode cX4_thingLine 248 = .ok (.aload_n 0, 1) := dk_42 (dk_at dksX4_thingLine_10 16 rfl rfl)
theorem dX4_thingLine_249 : decode cX4_thingLine 249 = .ok (.getfield 20, 3) := dk_180 0 20 (dk_at dksX4_thingLine_10 17 rfl rfl)
theorem dX4_thingLine_252 : decode cX4_thingLine 252 = .ok (.iload_n 1, 1) := dk_27 (dk_at dksX4_thingLine_10 20 rfl rfl)
theorem dX4_thingLine_253 : decode cX4_thingLine 253 = .ok (.iload_n 2, 1) := dk_28 (dk_at dksX4_thingLine_10 21 rfl rfl)
theorem dX4_thingLine_254 : decode cX4_thingLine 254 = .ok (.iastore, 1) := dk_79 (dk_at dksX4_thingLine_10 22 rfl rfl)
theorem dX4_thingLine_255 : decode cX4_thingLine 255 = .ok (.aload_n 0, 1) := dk_42 (dk_at dksX4_thingLine_10 23 rfl rfl)
theorem dX4_thingLine_256 : decode cX4_thingLine 256 = .ok (.dup, 1) := dk_89 (dk_at dksX4_thingLine_11 0 rfl rfl)
theorem dX4_thingLine_257 : decode cX4_thingLine 257 = .ok (.getfield 174, 3) := dk_180 0 174 (dk_at dksX4_thingLine_11 1 rfl rfl)
theorem dX4_thingLine_260 : decode cX4_thingLine 260 = .ok (.iconst 1, 1) := dk_4 (dk_at dksX4_thingLine_11 4 rfl rfl)
theorem dX4_thingLine_261 : decode cX4_thingLine 261 = .ok (.iadd, 1) := dk_96 (dk_at dksX4_thingLine_11 5 rfl rfl)
theorem dX4_thingLine_262 : decode cX4_thingLine 262 = .ok (.putfield 174, 3) := dk_181 0 174 (dk_at dksX4_thingLine_11 6 rfl rfl)
theorem dX4_thingLine_265 : decode cX4_thingLine 265 = .ok (.iconst 1, 1) := dk_4 (dk_at dksX4_thingLine_11 9 rfl rfl)
theorem dX4_thingLine_266 : decode cX4_thingLine 266 = .ok (.ireturn, 1) := dk_172 (dk_at dksX4_thingLine_11 10 rfl rfl)
abbrev cX4_newName : ByteArray := prog_18_method_22_code
def yX4_newName : MethodName := ⟨RX4, "newName", "([III)Z"⟩
def dkwX4_newName_1 : List UInt8 := [182, 0, 220, 155, 0, 11, 42, 6, 182, 0, 168, 153, 0, 7, 4, 167, 0, 4, 3, 172]
abbrev dktX4_newName_1 : List UInt8 := dkwX4_newName_1 ++ []
def dkwX4_newName_0 : List UInt8 := [42, 180, 0, 142, 5, 159, 0, 9, 42, 4, 182, 0, 168, 172, 42, 43, 28, 29, 42, 180, 0, 153]
abbrev dktX4_newName_0 : List UInt8 := dkwX4_newName_0 ++ dktX4_newName_1
theorem dksX4_newName_0 : cX4_newName.data.toList.drop 0 = dktX4_newName_0 := by decide +kernel
theorem dksX4_newName_1 : cX4_newName.data.toList.drop 22 = dktX4_newName_1 := dk_seg dksX4_newName_0 22 rfl rfl
theorem dX4_newName_0 : decode cX4_newName 0 = .ok (.aload_n 0, 1) := dk_42 (dk_at dksX4_newName_0 0 rfl rfl)
theorem dX4_newName_1 : decode cX4_newName 1 = .ok (.getfield 142, 3) := dk_180 0 142 (dk_at dksX4_newName_0 1 rfl rfl)
theorem dX4_newName_4 : decode cX4_newName 4 = .ok (.iconst 2, 1) := dk_5 (dk_at dksX4_newName_0 4 rfl rfl)
theorem dX4_newName_5 : decode cX4_newName 5 = .ok (.if_icmp .eq 9, 3) := dk_159 0 9 (dk_at dksX4_newName_0 5 rfl rfl)
theorem dX4_newName_8 : decode cX4_newName 8 = .ok (.aload_n 0, 1) := dk_42 (dk_at dksX4_newName_0 8 rfl rfl)
theorem dX4_newName_9 : decode cX4_newName 9 = .ok (.iconst 1, 1) := dk_4 (dk_at dksX4_newName_0 9 rfl rfl)
theorem dX4_newName_10 : decode cX4_newName 10 = .ok (.invokevirtual 168, 3) := dk_182 0 168 (dk_at dksX4_newName_0 10 rfl rfl)
theorem dX4_newName_13 : decode cX4_newName 13 = .ok (.ireturn, 1) := dk_172 (dk_at dksX4_newName_0 13 rfl rfl)
theorem dX4_newName_14 : decode cX4_newName 14 = .ok (.aload_n 0, 1) := dk_42 (dk_at dksX4_newName_0 14 rfl rfl)
theorem dX4_newName_15 : decode cX4_newName 15 = .ok (.aload_n 1, 1) := dk_43 (dk_at dksX4_newName_0 15 rfl rfl)
theorem dX4_newName_16 : decode cX4_newName 16 = .ok (.iload_n 2, 1) := dk_28 (dk_at dksX4_newName_0 16 rfl rfl)
theorem dX4_newName_17 : decode cX4_newName 17 = .ok (.iload_n 3, 1) := dk_29 (dk_at dksX4_newName_0 17 rfl rfl)
theorem dX4_newName_18 : decode cX4_newName 18 = .ok (.aload_n 0, 1) := dk_42 (dk_at dksX4_newName_0 18 rfl rfl)
theorem dX4_newName_19 : decode cX4_newName 19 = .ok (.getfield 153, 3) := dk_180 0 153 (dk_at dksX4_newName_0 19 rfl rfl)
theorem dX4_newName_22 : decode cX4_newName 22 = .ok (.invokevirtual 220, 3) := dk_182 0 220 (dk_at dksX4_newName_1 0 rfl rfl)
theorem dX4_newName_25 : decode cX4_newName 25 = .ok (.ifCond .lt 11, 3) := dk_155 0 11 (dk_at dksX4_newName_1 3 rfl rfl)
theorem dX4_newName_28 : decode cX4_newName 28 = .ok (.aload_n 0, 1) := dk_42 (dk_at dksX4_newName_1 6 rfl rfl)
theorem dX4_newName_29 : decode cX4_newName 29 = .ok (.iconst 3, 1) := dk_6 (dk_at dksX4_newName_1 7 rfl rfl)
theorem dX4_newName_30 : decode cX4_newName 30 = .ok (.invokevirtual 168, 3) := dk_182 0 168 (dk_at dksX4_newName_1 8 rfl rfl)
theorem dX4_newName_33 : decode cX4_newName 33 = .ok (.ifCond .eq 7, 3) := dk_153 0 7 (dk_at dksX4_newName_1 11 rfl rfl)
theorem dX4_newName_36 : decode cX4_newName 36 = .ok (.iconst 1, 1) := dk_4 (dk_at dksX4_newName_1 14 rfl rfl)
theorem dX4_newName_37 : decode cX4_newName 37 = .ok (.goto 4, 3) := dk_167 0 4 (dk_at dksX4_newName_1 15 rfl rfl)
theorem dX4_newName_40 : decode cX4_newName 40 = .ok (.iconst 0, 1) := dk_3 (dk_at dksX4_newName_1 18 rfl rfl)
theorem dX4_newName_41 : decode cX4_newName 41 = .ok (.ireturn, 1) := dk_172 (dk_at dksX4_newName_1 19 rfl rfl)
abbrev cX4_find : ByteArray := prog_18_method_21_code
def yX4_find : MethodName := ⟨RX4, "find", "([IIII)I"⟩
def dkwX4_find_1 : List UInt8 := [132, 5, 1, 167, 255, 233, 2, 172]
abbrev dktX4_find_1 : List UInt8 := dkwX4_find_1 ++ []
def dkwX4_find_0 : List UInt8 := [3, 54, 5, 21, 5, 29, 162, 0, 23, 43, 28, 21, 5, 96, 46, 21, 4, 160, 0, 6, 21, 5, 172]
abbrev dktX4_find_0 : List UInt8 := dkwX4_find_0 ++ dktX4_find_1
theorem dksX4_find_0 : cX4_find.data.toList.drop 0 = dktX4_find_0 := by decide +kernel
theorem dksX4_find_1 : cX4_find.data.toList.drop 23 = dktX4_find_1 := dk_seg dksX4_find_0 23 rfl rfl
theorem dX4_find_0 : decode cX4_find 0 = .ok (.iconst 0, 1) := dk_3 (dk_at dksX4_find_0 0 rfl rfl)
theorem dX4_find_1 : decode cX4_find 1 = .ok (.istore 5, 2) := dk_54 5 (dk_at dksX4_find_0 1 rfl rfl)
theorem dX4_find_3 : decode cX4_find 3 = .ok (.iload 5, 2) := dk_21 5 (dk_at dksX4_find_0 3 rfl rfl)
theorem dX4_find_5 : decode cX4_find 5 = .ok (.iload_n 3, 1) := dk_29 (dk_at dksX4_find_0 5 rfl rfl)
theorem dX4_find_6 : decode cX4_find 6 = .ok (.if_icmp .ge 23, 3) := dk_162 0 23 (dk_at dksX4_find_0 6 rfl rfl)
theorem dX4_find_9 : decode cX4_find 9 = .ok (.aload_n 1, 1) := dk_43 (dk_at dksX4_find_0 9 rfl rfl)
theorem dX4_find_10 : decode cX4_find 10 = .ok (.iload_n 2, 1) := dk_28 (dk_at dksX4_find_0 10 rfl rfl)
theorem dX4_find_11 : decode cX4_find 11 = .ok (.iload 5, 2) := dk_21 5 (dk_at dksX4_find_0 11 rfl rfl)
theorem dX4_find_13 : decode cX4_find 13 = .ok (.iadd, 1) := dk_96 (dk_at dksX4_find_0 13 rfl rfl)
theorem dX4_find_14 : decode cX4_find 14 = .ok (.iaload, 1) := dk_46 (dk_at dksX4_find_0 14 rfl rfl)
theorem dX4_find_15 : decode cX4_find 15 = .ok (.iload 4, 2) := dk_21 4 (dk_at dksX4_find_0 15 rfl rfl)
theorem dX4_find_17 : decode cX4_find 17 = .ok (.if_icmp .ne 6, 3) := dk_160 0 6 (dk_at dksX4_find_0 17 rfl rfl)
theorem dX4_find_20 : decode cX4_find 20 = .ok (.iload 5, 2) := dk_21 5 (dk_at dksX4_find_0 20 rfl rfl)
theorem dX4_find_22 : decode cX4_find 22 = .ok (.ireturn, 1) := dk_172 (dk_at dksX4_find_0 22 rfl rfl)
theorem dX4_find_23 : decode cX4_find 23 = .ok (.iinc 5 1, 3) := dk_132 5 1 (dk_at dksX4_find_1 0 rfl rfl)
theorem dX4_find_26 : decode cX4_find 26 = .ok (.goto (-23), 3) := dk_167 255 233 (dk_at dksX4_find_1 3 rfl rfl)
theorem dX4_find_29 : decode cX4_find 29 = .ok (.iconst (-1), 1) := dk_2 (dk_at dksX4_find_1 6 rfl rfl)
theorem dX4_find_30 : decode cX4_find 30 = .ok (.ireturn, 1) := dk_172 (dk_at dksX4_find_1 7 rfl rfl)
abbrev cX4_numberRead : ByteArray := prog_18_method_17_code
def yX4_numberRead : MethodName := ⟨RX4, "numberRead", "(II)Z"⟩
def dkwX4_numberRead_1 : List UInt8 := [180, 0, 153, 28, 164, 0, 11, 42, 5, 182, 0, 168, 153, 0, 7, 4, 167, 0, 4, 3, 172]
abbrev dktX4_numberRead_1 : List UInt8 := dkwX4_numberRead_1 ++ []
def dkwX4_numberRead_0 : List UInt8 := [42, 180, 0, 142, 6, 159, 0, 9, 42, 4, 182, 0, 168, 172, 42, 180, 0, 153, 27, 161, 0, 11, 42]
abbrev dktX4_numberRead_0 : List UInt8 := dkwX4_numberRead_0 ++ dktX4_numberRead_1
theorem dksX4_numberRead_0 : cX4_numberRead.data.toList.drop 0 = dktX4_numberRead_0 := by decide +kernel
theorem dksX4_numberRead_1 : cX4_numberRead.data.toList.drop 23 = dktX4_numberRead_1 := dk_seg dksX4_numberRead_0 23 rfl rfl
theorem dX4_numberRead_0 : decode cX4_numberRead 0 = .ok (.aload_n 0, 1) := dk_42 (dk_at dksX4_numberRead_0 0 rfl rfl)
theorem dX4_numberRead_1 : decode cX4_numberRead 1 = .ok (.getfield 142, 3) := dk_180 0 142 (dk_at dksX4_numberRead_0 1 rfl rfl)
theorem dX4_numberRead_4 : decode cX4_numberRead 4 = .ok (.iconst 3, 1) := dk_6 (dk_at dksX4_numberRead_0 4 rfl rfl)
theorem dX4_numberRead_5 : decode cX4_numberRead 5 = .ok (.if_icmp .eq 9, 3) := dk_159 0 9 (dk_at dksX4_numberRead_0 5 rfl rfl)
theorem dX4_numberRead_8 : decode cX4_numberRead 8 = .ok (.aload_n 0, 1) := dk_42 (dk_at dksX4_numberRead_0 8 rfl rfl)
theorem dX4_numberRead_9 : decode cX4_numberRead 9 = .ok (.iconst 1, 1) := dk_4 (dk_at dksX4_numberRead_0 9 rfl rfl)
theorem dX4_numberRead_10 : decode cX4_numberRead 10 = .ok (.invokevirtual 168, 3) := dk_182 0 168 (dk_at dksX4_numberRead_0 10 rfl rfl)
theorem dX4_numberRead_13 : decode cX4_numberRead 13 = .ok (.ireturn, 1) := dk_172 (dk_at dksX4_numberRead_0 13 rfl rfl)
theorem dX4_numberRead_14 : decode cX4_numberRead 14 = .ok (.aload_n 0, 1) := dk_42 (dk_at dksX4_numberRead_0 14 rfl rfl)
theorem dX4_numberRead_15 : decode cX4_numberRead 15 = .ok (.getfield 153, 3) := dk_180 0 153 (dk_at dksX4_numberRead_0 15 rfl rfl)
theorem dX4_numberRead_18 : decode cX4_numberRead 18 = .ok (.iload_n 1, 1) := dk_27 (dk_at dksX4_numberRead_0 18 rfl rfl)
theorem dX4_numberRead_19 : decode cX4_numberRead 19 = .ok (.if_icmp .lt 11, 3) := dk_161 0 11 (dk_at dksX4_numberRead_0 19 rfl rfl)
theorem dX4_numberRead_22 : decode cX4_numberRead 22 = .ok (.aload_n 0, 1) := dk_42 (dk_at dksX4_numberRead_0 22 rfl rfl)
theorem dX4_numberRead_23 : decode cX4_numberRead 23 = .ok (.getfield 153, 3) := dk_180 0 153 (dk_at dksX4_numberRead_1 0 rfl rfl)
theorem dX4_numberRead_26 : decode cX4_numberRead 26 = .ok (.iload_n 2, 1) := dk_28 (dk_at dksX4_numberRead_1 3 rfl rfl)
theorem dX4_numberRead_27 : decode cX4_numberRead 27 = .ok (.if_icmp .le 11, 3) := dk_164 0 11 (dk_at dksX4_numberRead_1 4 rfl rfl)
theorem dX4_numberRead_30 : decode cX4_numberRead 30 = .ok (.aload_n 0, 1) := dk_42 (dk_at dksX4_numberRead_1 7 rfl rfl)
theorem dX4_numberRead_31 : decode cX4_numberRead 31 = .ok (.iconst 2, 1) := dk_5 (dk_at dksX4_numberRead_1 8 rfl rfl)
theorem dX4_numberRead_32 : decode cX4_numberRead 32 = .ok (.invokevirtual 168, 3) := dk_182 0 168 (dk_at dksX4_numberRead_1 9 rfl rfl)
theorem dX4_numberRead_35 : decode cX4_numberRead 35 = .ok (.ifCond .eq 7, 3) := dk_153 0 7 (dk_at dksX4_numberRead_1 12 rfl rfl)
theorem dX4_numberRead_38 : decode cX4_numberRead 38 = .ok (.iconst 1, 1) := dk_4 (dk_at dksX4_numberRead_1 15 rfl rfl)
theorem dX4_numberRead_39 : decode cX4_numberRead 39 = .ok (.goto 4, 3) := dk_167 0 4 (dk_at dksX4_numberRead_1 16 rfl rfl)
theorem dX4_numberRead_42 : decode cX4_numberRead 42 = .ok (.iconst 0, 1) := dk_3 (dk_at dksX4_numberRead_1 19 rfl rfl)
theorem dX4_numberRead_43 : decode cX4_numberRead 43 = .ok (.ireturn, 1) := dk_172 (dk_at dksX4_numberRead_1 20 rfl rfl)
abbrev cX4_keyRead : ByteArray := prog_18_method_16_code
def yX4_keyRead : MethodName := ⟨RX4, "keyRead", "(I)Z"⟩
def dkwX4_keyRead_0 : List UInt8 := [42, 27, 182, 0, 165, 154, 0, 9, 42, 4, 182, 0, 168, 172, 42, 182, 0, 171, 4, 172]
abbrev dktX4_keyRead_0 : List UInt8 := dkwX4_keyRead_0 ++ []
theorem dksX4_keyRead_0 : cX4_keyRead.data.toList.drop 0 = dktX4_keyRead_0 := by decide +kernel
theorem dX4_keyRead_0 : decode cX4_keyRead 0 = .ok (.aload_n 0, 1) := dk_42 (dk_at dksX4_keyRead_0 0 rfl rfl)
theorem dX4_keyRead_1 : decode cX4_keyRead 1 = .ok (.iload_n 1, 1) := dk_27 (dk_at dksX4_keyRead_0 1 rfl rfl)
theorem dX4_keyRead_2 : decode cX4_keyRead 2 = .ok (.invokevirtual 165, 3) := dk_182 0 165 (dk_at dksX4_keyRead_0 2 rfl rfl)
theorem dX4_keyRead_5 : decode cX4_keyRead 5 = .ok (.ifCond .ne 9, 3) := dk_154 0 9 (dk_at dksX4_keyRead_0 5 rfl rfl)
theorem dX4_keyRead_8 : decode cX4_keyRead 8 = .ok (.aload_n 0, 1) := dk_42 (dk_at dksX4_keyRead_0 8 rfl rfl)
theorem dX4_keyRead_9 : decode cX4_keyRead 9 = .ok (.iconst 1, 1) := dk_4 (dk_at dksX4_keyRead_0 9 rfl rfl)
theorem dX4_keyRead_10 : decode cX4_keyRead 10 = .ok (.invokevirtual 168, 3) := dk_182 0 168 (dk_at dksX4_keyRead_0 10 rfl rfl)
theorem dX4_keyRead_13 : decode cX4_keyRead 13 = .ok (.ireturn, 1) := dk_172 (dk_at dksX4_keyRead_0 13 rfl rfl)
theorem dX4_keyRead_14 : decode cX4_keyRead 14 = .ok (.aload_n 0, 1) := dk_42 (dk_at dksX4_keyRead_0 14 rfl rfl)
theorem dX4_keyRead_15 : decode cX4_keyRead 15 = .ok (.invokevirtual 171, 3) := dk_182 0 171 (dk_at dksX4_keyRead_0 15 rfl rfl)
theorem dX4_keyRead_18 : decode cX4_keyRead 18 = .ok (.iconst 1, 1) := dk_4 (dk_at dksX4_keyRead_0 18 rfl rfl)
theorem dX4_keyRead_19 : decode cX4_keyRead 19 = .ok (.ireturn, 1) := dk_172 (dk_at dksX4_keyRead_0 19 rfl rfl)
abbrev cX4_isKey : ByteArray := prog_18_method_14_code
def yX4_isKey : MethodName := ⟨RX4, "isKey", "(I)Z"⟩
def dkwX4_isKey_0 : List UInt8 := [42, 180, 0, 142, 4, 160, 0, 15, 42, 180, 0, 153, 27, 160, 0, 7, 4, 167, 0, 4, 3, 172]
abbrev dktX4_isKey_0 : List UInt8 := dkwX4_isKey_0 ++ []
theorem dksX4_isKey_0 : cX4_isKey.data.toList.drop 0 = dktX4_isKey_0 := by decide +kernel
theorem dX4_isKey_0 : decode cX4_isKey 0 = .ok (.aload_n 0, 1) := dk_42 (dk_at dksX4_isKey_0 0 rfl rfl)
theorem dX4_isKey_1 : decode cX4_isKey 1 = .ok (.getfield 142, 3) := dk_180 0 142 (dk_at dksX4_isKey_0 1 rfl rfl)
theorem dX4_isKey_4 : decode cX4_isKey 4 = .ok (.iconst 1, 1) := dk_4 (dk_at dksX4_isKey_0 4 rfl rfl)
theorem dX4_isKey_5 : decode cX4_isKey 5 = .ok (.if_icmp .ne 15, 3) := dk_160 0 15 (dk_at dksX4_isKey_0 5 rfl rfl)
theorem dX4_isKey_8 : decode cX4_isKey 8 = .ok (.aload_n 0, 1) := dk_42 (dk_at dksX4_isKey_0 8 rfl rfl)
theorem dX4_isKey_9 : decode cX4_isKey 9 = .ok (.getfield 153, 3) := dk_180 0 153 (dk_at dksX4_isKey_0 9 rfl rfl)
theorem dX4_isKey_12 : decode cX4_isKey 12 = .ok (.iload_n 1, 1) := dk_27 (dk_at dksX4_isKey_0 12 rfl rfl)
theorem dX4_isKey_13 : decode cX4_isKey 13 = .ok (.if_icmp .ne 7, 3) := dk_160 0 7 (dk_at dksX4_isKey_0 13 rfl rfl)
theorem dX4_isKey_16 : decode cX4_isKey 16 = .ok (.iconst 1, 1) := dk_4 (dk_at dksX4_isKey_0 16 rfl rfl)
theorem dX4_isKey_17 : decode cX4_isKey 17 = .ok (.goto 4, 3) := dk_167 0 4 (dk_at dksX4_isKey_0 17 rfl rfl)
theorem dX4_isKey_20 : decode cX4_isKey 20 = .ok (.iconst 0, 1) := dk_3 (dk_at dksX4_isKey_0 20 rfl rfl)
theorem dX4_isKey_21 : decode cX4_isKey 21 = .ok (.ireturn, 1) := dk_172 (dk_at dksX4_isKey_0 21 rfl rfl)
abbrev cX4_tellerLine : ByteArray := prog_18_method_24_code
def yX4_tellerLine : MethodName := ⟨RX4, "tellerLine", "()Z"⟩
def dkwX4_tellerLine_9 : List UInt8 := [180, 0, 35, 27, 28, 79, 42, 89, 180, 0, 177, 4, 96, 181, 0, 177, 4, 172]
abbrev dktX4_tellerLine_9 : List UInt8 := dkwX4_tellerLine_9 ++ []
def dkwX4_tellerLine_8 : List UInt8 := [46, 182, 0, 228, 154, 0, 5, 3, 172, 42, 180, 0, 47, 27, 42, 180, 0, 153, 79, 42, 182, 0, 171, 42]
abbrev dktX4_tellerLine_8 : List UInt8 := dkwX4_tellerLine_8 ++ dktX4_tellerLine_9
def dkwX4_tellerLine_7 : List UInt8 := [16, 13, 182, 0, 165, 153, 0, 42, 42, 182, 0, 171, 42, 42, 180, 0, 41, 27, 46, 42, 180, 0, 44, 27]
abbrev dktX4_tellerLine_7 : List UInt8 := dkwX4_tellerLine_7 ++ dktX4_tellerLine_8
def dkwX4_tellerLine_6 : List UInt8 := [3, 172, 42, 180, 0, 44, 27, 42, 180, 0, 153, 79, 42, 180, 0, 47, 27, 2, 79, 42, 182, 0, 171, 42]
abbrev dktX4_tellerLine_6 : List UInt8 := dkwX4_tellerLine_6 ++ dktX4_tellerLine_7
def dkwX4_tellerLine_5 : List UInt8 := [16, 12, 182, 0, 232, 153, 0, 19, 42, 42, 180, 0, 41, 27, 46, 17, 0, 199, 182, 0, 228, 154, 0, 5]
abbrev dktX4_tellerLine_5 : List UInt8 := dkwX4_tellerLine_5 ++ dktX4_tellerLine_6
def dkwX4_tellerLine_4 : List UInt8 := [182, 0, 228, 154, 0, 5, 3, 172, 42, 180, 0, 41, 27, 42, 180, 0, 153, 79, 42, 182, 0, 171, 42]
abbrev dktX4_tellerLine_4 : List UInt8 := dkwX4_tellerLine_4 ++ dktX4_tellerLine_5
def dkwX4_tellerLine_3 : List UInt8 := [180, 0, 153, 79, 42, 182, 0, 171, 42, 16, 11, 182, 0, 232, 153, 0, 14, 42, 3, 17, 0, 199]
abbrev dktX4_tellerLine_3 : List UInt8 := dkwX4_tellerLine_3 ++ dktX4_tellerLine_4
def dkwX4_tellerLine_2 : List UInt8 := [42, 182, 0, 171, 42, 4, 16, 99, 182, 0, 228, 154, 0, 5, 3, 172, 42, 180, 0, 38, 27, 42]
abbrev dktX4_tellerLine_2 : List UInt8 := dkwX4_tellerLine_2 ++ dktX4_tellerLine_3
def dkwX4_tellerLine_1 : List UInt8 := [42, 180, 0, 177, 182, 0, 224, 154, 0, 5, 3, 172, 8, 42, 180, 0, 177, 96, 60, 42, 180, 0, 153, 61]
abbrev dktX4_tellerLine_1 : List UInt8 := dkwX4_tellerLine_1 ++ dktX4_tellerLine_2
def dkwX4_tellerLine_0 : List UInt8 := [42, 180, 0, 177, 8, 160, 0, 9, 42, 5, 182, 0, 168, 172, 42, 182, 0, 171, 42, 42, 180, 0, 35, 8]
abbrev dktX4_tellerLine_0 : List UInt8 := dkwX4_tellerLine_0 ++ dktX4_tellerLine_1
theorem dksX4_tellerLine_0 : cX4_tellerLine.data.toList.drop 0 = dktX4_tellerLine_0 := by decide +kernel
theorem dksX4_tellerLine_1 : cX4_tellerLine.data.toList.drop 24 = dktX4_tellerLine_1 := dk_seg dksX4_tellerLine_0 24 rfl rfl
theorem dksX4_tellerLine_2 : cX4_tellerLine.data.toList.drop 48 = dktX4_tellerLine_2 := dk_seg dksX4_tellerLine_1 24 rfl rfl
theorem dksX4_tellerLine_3 : cX4_tellerLine.data.toList.drop 70 = dktX4_tellerLine_3 := dk_seg dksX4_tellerLine_2 22 rfl rfl
theorem dksX4_tellerLine_4 : cX4_tellerLine.data.toList.drop 92 = dktX4_tellerLine_4 := dk_seg dksX4_tellerLine_3 22 rfl rfl
theorem dksX4_tellerLine_5 : cX4_tellerLine.data.toList.drop 115 = dktX4_tellerLine_5 := dk_seg dksX4_tellerLine_4 23 rfl rfl
theorem dksX4_tellerLine_6 : cX4_tellerLine.data.toList.drop 139 = dktX4_tellerLine_6 := dk_seg dksX4_tellerLine_5 24 rfl rfl
theorem dksX4_tellerLine_7 : cX4_tellerLine.data.toList.drop 163 = dktX4_tellerLine_7 := dk_seg dksX4_tellerLine_6 24 rfl rfl
theorem dksX4_tellerLine_8 : cX4_tellerLine.data.toList.drop 187 = dktX4_tellerLine_8 := dk_seg dksX4_tellerLine_7 24 rfl rfl
theorem dksX4_tellerLine_9 : cX4_tellerLine.data.toList.drop 211 = dktX4_tellerLine_9 := dk_seg dksX4_tellerLine_8 24 rfl rfl
theorem dX4_tellerLine_0 : decode cX4_tellerLine 0 = .ok (.aload_n 0, 1) := dk_42 (dk_at dksX4_tellerLine_0 0 rfl rfl)
theorem dX4_tellerLine_1 : decode cX4_tellerLine 1 = .ok (.getfield 177, 3) := dk_180 0 177 (dk_at dksX4_tellerLine_0 1 rfl rfl)
theorem dX4_tellerLine_4 : decode cX4_tellerLine 4 = .ok (.iconst 5, 1) := dk_8 (dk_at dksX4_tellerLine_0 4 rfl rfl)
theorem dX4_tellerLine_5 : decode cX4_tellerLine 5 = .ok (.if_icmp .ne 9, 3) := dk_160 0 9 (dk_at dksX4_tellerLine_0 5 rfl rfl)
theorem dX4_tellerLine_8 : decode cX4_tellerLine 8 = .ok (.aload_n 0, 1) := dk_42 (dk_at dksX4_tellerLine_0 8 rfl rfl)
theorem dX4_tellerLine_9 : decode cX4_tellerLine 9 = .ok (.iconst 2, 1) := dk_5 (dk_at dksX4_tellerLine_0 9 rfl rfl)
theorem dX4_tellerLine_10 : decode cX4_tellerLine 10 = .ok (.invokevirtual 168, 3) := dk_182 0 168 (dk_at dksX4_tellerLine_0 10 rfl rfl)
theorem dX4_tellerLine_13 : decode cX4_tellerLine 13 = .ok (.ireturn, 1) := dk_172 (dk_at dksX4_tellerLine_0 13 rfl rfl)
theorem dX4_tellerLine_14 : decode cX4_tellerLine 14 = .ok (.aload_n 0, 1) := dk_42 (dk_at dksX4_tellerLine_0 14 rfl rfl)
theorem dX4_tellerLine_15 : decode cX4_tellerLine 15 = .ok (.invokevirtual 171, 3) := dk_182 0 171 (dk_at dksX4_tellerLine_0 15 rfl rfl)
theorem dX4_tellerLine_18 : decode cX4_tellerLine 18 = .ok (.aload_n 0, 1) := dk_42 (dk_at dksX4_tellerLine_0 18 rfl rfl)
theorem dX4_tellerLine_19 : decode cX4_tellerLine 19 = .ok (.aload_n 0, 1) := dk_42 (dk_at dksX4_tellerLine_0 19 rfl rfl)
theorem dX4_tellerLine_20 : decode cX4_tellerLine 20 = .ok (.getfield 35, 3) := dk_180 0 35 (dk_at dksX4_tellerLine_0 20 rfl rfl)
theorem dX4_tellerLine_23 : decode cX4_tellerLine 23 = .ok (.iconst 5, 1) := dk_8 (dk_at dksX4_tellerLine_0 23 rfl rfl)
theorem dX4_tellerLine_24 : decode cX4_tellerLine 24 = .ok (.aload_n 0, 1) := dk_42 (dk_at dksX4_tellerLine_1 0 rfl rfl)
theorem dX4_tellerLine_25 : decode cX4_tellerLine 25 = .ok (.getfield 177, 3) := dk_180 0 177 (dk_at dksX4_tellerLine_1 1 rfl rfl)
theorem dX4_tellerLine_28 : decode cX4_tellerLine 28 = .ok (.invokevirtual 224, 3) := dk_182 0 224 (dk_at dksX4_tellerLine_1 4 rfl rfl)
theorem dX4_tellerLine_31 : decode cX4_tellerLine 31 = .ok (.ifCond .ne 5, 3) := dk_154 0 5 (dk_at dksX4_tellerLine_1 7 rfl rfl)
theorem dX4_tellerLine_34 : decode cX4_tellerLine 34 = .ok (.iconst 0, 1) := dk_3 (dk_at dksX4_tellerLine_1 10 rfl rfl)
theorem dX4_tellerLine_35 : decode cX4_tellerLine 35 = .ok (.ireturn, 1) := dk_172 (dk_at dksX4_tellerLine_1 11 rfl rfl)
theorem dX4_tellerLine_36 : decode cX4_tellerLine 36 = .ok (.iconst 5, 1) := dk_8 (dk_at dksX4_tellerLine_1 12 rfl rfl)
theorem dX4_tellerLine_37 : decode cX4_tellerLine 37 = .ok (.aload_n 0, 1) := dk_42 (dk_at dksX4_tellerLine_1 13 rfl rfl)
theorem dX4_tellerLine_38 : decode cX4_tellerLine 38 = .ok (.getfield 177, 3) := dk_180 0 177 (dk_at dksX4_tellerLine_1 14 rfl rfl)
theorem dX4_tellerLine_41 : decode cX4_tellerLine 41 = .ok (.iadd, 1) := dk_96 (dk_at dksX4_tellerLine_1 17 rfl rfl)
theorem dX4_tellerLine_42 : decode cX4_tellerLine 42 = .ok (.istore_n 1, 1) := dk_60 (dk_at dksX4_tellerLine_1 18 rfl rfl)
theorem dX4_tellerLine_43 : decode cX4_tellerLine 43 = .ok (.aload_n 0, 1) := dk_42 (dk_at dksX4_tellerLine_1 19 rfl rfl)
theorem dX4_tellerLine_44 : decode cX4_tellerLine 44 = .ok (.getfield 153, 3) := dk_180 0 153 (dk_at dksX4_tellerLine_1 20 rfl rfl)
theorem dX4_tellerLine_47 : decode cX4_tellerLine 47 = .ok (.istore_n 2, 1) := dk_61 (dk_at dksX4_tellerLine_1 23 rfl rfl)
theorem dX4_tellerLine_48 : decode cX4_tellerLine 48 = .ok (.aload_n 0, 1) := dk_42 (dk_at dksX4_tellerLine_2 0 rfl rfl)
theorem dX4_tellerLine_49 : decode cX4_tellerLine 49 = .ok (.invokevirtual 171, 3) := dk_182 0 171 (dk_at dksX4_tellerLine_2 1 rfl rfl)
theorem dX4_tellerLine_52 : decode cX4_tellerLine 52 = .ok (.aload_n 0, 1) := dk_42 (dk_at dksX4_tellerLine_2 4 rfl rfl)
theorem dX4_tellerLine_53 : decode cX4_tellerLine 53 = .ok (.iconst 1, 1) := dk_4 (dk_at dksX4_tellerLine_2 5 rfl rfl)
theorem dX4_tellerLine_54 : decode cX4_tellerLine 54 = .ok (.bipush 99, 2) := dk_16 99 (dk_at dksX4_tellerLine_2 6 rfl rfl)
theorem dX4_tellerLine_56 : decode cX4_tellerLine 56 = .ok (.invokevirtual 228, 3) := dk_182 0 228 (dk_at dksX4_tellerLine_2 8 rfl rfl)
theorem dX4_tellerLine_59 : decode cX4_tellerLine 59 = .ok (.ifCond .ne 5, 3) := dk_154 0 5 (dk_at dksX4_tellerLine_2 11 rfl rfl)
theorem dX4_tellerLine_62 : decode cX4_tellerLine 62 = .ok (.iconst 0, 1) := dk_3 (dk_at dksX4_tellerLine_2 14 rfl rfl)
theorem dX4_tellerLine_63 : decode cX4_tellerLine 63 = .ok (.ireturn, 1) := dk_172 (dk_at dksX4_tellerLine_2 15 rfl rfl)
theorem dX4_tellerLine_64 : decode cX4_tellerLine 64 = .ok (.aload_n 0, 1) := dk_42 (dk_at dksX4_tellerLine_2 16 rfl rfl)
theorem dX4_tellerLine_65 : decode cX4_tellerLine 65 = .ok (.getfield 38, 3) := dk_180 0 38 (dk_at dksX4_tellerLine_2 17 rfl rfl)
theorem dX4_tellerLine_68 : decode cX4_tellerLine 68 = .ok (.iload_n 1, 1) := dk_27 (dk_at dksX4_tellerLine_2 20 rfl rfl)
theorem dX4_tellerLine_69 : decode cX4_tellerLine 69 = .ok (.aload_n 0, 1) := dk_42 (dk_at dksX4_tellerLine_2 21 rfl rfl)
theorem dX4_tellerLine_70 : decode cX4_tellerLine 70 = .ok (.getfield 153, 3) := dk_180 0 153 (dk_at dksX4_tellerLine_3 0 rfl rfl)
theorem dX4_tellerLine_73 : decode cX4_tellerLine 73 = .ok (.iastore, 1) := dk_79 (dk_at dksX4_tellerLine_3 3 rfl rfl)
theorem dX4_tellerLine_74 : decode cX4_tellerLine 74 = .ok (.aload_n 0, 1) := dk_42 (dk_at dksX4_tellerLine_3 4 rfl rfl)
theorem dX4_tellerLine_75 : decode cX4_tellerLine 75 = .ok (.invokevirtual 171, 3) := dk_182 0 171 (dk_at dksX4_tellerLine_3 5 rfl rfl)
theorem dX4_tellerLine_78 : decode cX4_tellerLine 78 = .ok (.aload_n 0, 1) := dk_42 (dk_at dksX4_tellerLine_3 8 rfl rfl)
theorem dX4_tellerLine_79 : decode cX4_tellerLine 79 = .ok (.bipush 11, 2) := dk_16 11 (dk_at dksX4_tellerLine_3 9 rfl rfl)
theorem dX4_tellerLine_81 : decode cX4_tellerLine 81 = .ok (.invokevirtual 232, 3) := dk_182 0 232 (dk_at dksX4_tellerLine_3 11 rfl rfl)
theorem dX4_tellerLine_84 : decode cX4_tellerLine 84 = .ok (.ifCond .eq 14, 3) := dk_153 0 14 (dk_at dksX4_tellerLine_3 14 rfl rfl)
theorem dX4_tellerLine_87 : decode cX4_tellerLine 87 = .ok (.aload_n 0, 1) := dk_42 (dk_at dksX4_tellerLine_3 17 rfl rfl)
theorem dX4_tellerLine_88 : decode cX4_tellerLine 88 = .ok (.iconst 0, 1) := dk_3 (dk_at dksX4_tellerLine_3 18 rfl rfl)
theorem dX4_tellerLine_89 : decode cX4_tellerLine 89 = .ok (.sipush 199, 3) := dk_17 0 199 (dk_at dksX4_tellerLine_3 19 rfl rfl)
theorem dX4_tellerLine_92 : decode cX4_tellerLine 92 = .ok (.invokevirtual 228, 3) := dk_182 0 228 (dk_at dksX4_tellerLine_4 0 rfl rfl)
theorem dX4_tellerLine_95 : decode cX4_tellerLine 95 = .ok (.ifCond .ne 5, 3) := dk_154 0 5 (dk_at dksX4_tellerLine_4 3 rfl rfl)
theorem dX4_tellerLine_98 : decode cX4_tellerLine 98 = .ok (.iconst 0, 1) := dk_3 (dk_at dksX4_tellerLine_4 6 rfl rfl)
theorem dX4_tellerLine_99 : decode cX4_tellerLine 99 = .ok (.ireturn, 1) := dk_172 (dk_at dksX4_tellerLine_4 7 rfl rfl)
theorem dX4_tellerLine_100 : decode cX4_tellerLine 100 = .ok (.aload_n 0, 1) := dk_42 (dk_at dksX4_tellerLine_4 8 rfl rfl)
theorem dX4_tellerLine_101 : decode cX4_tellerLine 101 = .ok (.getfield 41, 3) := dk_180 0 41 (dk_at dksX4_tellerLine_4 9 rfl rfl)
theorem dX4_tellerLine_104 : decode cX4_tellerLine 104 = .ok (.iload_n 1, 1) := dk_27 (dk_at dksX4_tellerLine_4 12 rfl rfl)
theorem dX4_tellerLine_105 : decode cX4_tellerLine 105 = .ok (.aload_n 0, 1) := dk_42 (dk_at dksX4_tellerLine_4 13 rfl rfl)
theorem dX4_tellerLine_106 : decode cX4_tellerLine 106 = .ok (.getfield 153, 3) := dk_180 0 153 (dk_at dksX4_tellerLine_4 14 rfl rfl)
theorem dX4_tellerLine_109 : decode cX4_tellerLine 109 = .ok (.iastore, 1) := dk_79 (dk_at dksX4_tellerLine_4 17 rfl rfl)
theorem dX4_tellerLine_110 : decode cX4_tellerLine 110 = .ok (.aload_n 0, 1) := dk_42 (dk_at dksX4_tellerLine_4 18 rfl rfl)
theorem dX4_tellerLine_111 : decode cX4_tellerLine 111 = .ok (.invokevirtual 171, 3) := dk_182 0 171 (dk_at dksX4_tellerLine_4 19 rfl rfl)
theorem dX4_tellerLine_114 : decode cX4_tellerLine 114 = .ok (.aload_n 0, 1) := dk_42 (dk_at dksX4_tellerLine_4 22 rfl rfl)
theorem dX4_tellerLine_115 : decode cX4_tellerLine 115 = .ok (.bipush 12, 2) := dk_16 12 (dk_at dksX4_tellerLine_5 0 rfl rfl)
theorem dX4_tellerLine_117 : decode cX4_tellerLine 117 = .ok (.invokevirtual 232, 3) := dk_182 0 232 (dk_at dksX4_tellerLine_5 2 rfl rfl)
theorem dX4_tellerLine_120 : decode cX4_tellerLine 120 = .ok (.ifCond .eq 19, 3) := dk_153 0 19 (dk_at dksX4_tellerLine_5 5 rfl rfl)
theorem dX4_tellerLine_123 : decode cX4_tellerLine 123 = .ok (.aload_n 0, 1) := dk_42 (dk_at dksX4_tellerLine_5 8 rfl rfl)
theorem dX4_tellerLine_124 : decode cX4_tellerLine 124 = .ok (.aload_n 0, 1) := dk_42 (dk_at dksX4_tellerLine_5 9 rfl rfl)
theorem dX4_tellerLine_125 : decode cX4_tellerLine 125 = .ok (.getfield 41, 3) := dk_180 0 41 (dk_at dksX4_tellerLine_5 10 rfl rfl)
theorem dX4_tellerLine_128 : decode cX4_tellerLine 128 = .ok (.iload_n 1, 1) := dk_27 (dk_at dksX4_tellerLine_5 13 rfl rfl)
theorem dX4_tellerLine_129 : decode cX4_tellerLine 129 = .ok (.iaload, 1) := dk_46 (dk_at dksX4_tellerLine_5 14 rfl rfl)
theorem dX4_tellerLine_130 : decode cX4_tellerLine 130 = .ok (.sipush 199, 3) := dk_17 0 199 (dk_at dksX4_tellerLine_5 15 rfl rfl)
theorem dX4_tellerLine_133 : decode cX4_tellerLine 133 = .ok (.invokevirtual 228, 3) := dk_182 0 228 (dk_at dksX4_tellerLine_5 18 rfl rfl)
theorem dX4_tellerLine_136 : decode cX4_tellerLine 136 = .ok (.ifCond .ne 5, 3) := dk_154 0 5 (dk_at dksX4_tellerLine_5 21 rfl rfl)
theorem dX4_tellerLine_139 : decode cX4_tellerLine 139 = .ok (.iconst 0, 1) := dk_3 (dk_at dksX4_tellerLine_6 0 rfl rfl)
theorem dX4_tellerLine_140 : decode cX4_tellerLine 140 = .ok (.ireturn, 1) := dk_172 (dk_at dksX4_tellerLine_6 1 rfl rfl)
theorem dX4_tellerLine_141 : decode cX4_tellerLine 141 = .ok (.aload_n 0, 1) := dk_42 (dk_at dksX4_tellerLine_6 2 rfl rfl)
theorem dX4_tellerLine_142 : decode cX4_tellerLine 142 = .ok (.getfield 44, 3) := dk_180 0 44 (dk_at dksX4_tellerLine_6 3 rfl rfl)
theorem dX4_tellerLine_145 : decode cX4_tellerLine 145 = .ok (.iload_n 1, 1) := dk_27 (dk_at dksX4_tellerLine_6 6 rfl rfl)
theorem dX4_tellerLine_146 : decode cX4_tellerLine 146 = .ok (.aload_n 0, 1) := dk_42 (dk_at dksX4_tellerLine_6 7 rfl rfl)
theorem dX4_tellerLine_147 : decode cX4_tellerLine 147 = .ok (.getfield 153, 3) := dk_180 0 153 (dk_at dksX4_tellerLine_6 8 rfl rfl)
theorem dX4_tellerLine_150 : decode cX4_tellerLine 150 = .ok (.iastore, 1) := dk_79 (dk_at dksX4_tellerLine_6 11 rfl rfl)
theorem dX4_tellerLine_151 : decode cX4_tellerLine 151 = .ok (.aload_n 0, 1) := dk_42 (dk_at dksX4_tellerLine_6 12 rfl rfl)
theorem dX4_tellerLine_152 : decode cX4_tellerLine 152 = .ok (.getfield 47, 3) := dk_180 0 47 (dk_at dksX4_tellerLine_6 13 rfl rfl)
theorem dX4_tellerLine_155 : decode cX4_tellerLine 155 = .ok (.iload_n 1, 1) := dk_27 (dk_at dksX4_tellerLine_6 16 rfl rfl)
theorem dX4_tellerLine_156 : decode cX4_tellerLine 156 = .ok (.iconst (-1), 1) := dk_2 (dk_at dksX4_tellerLine_6 17 rfl rfl)
theorem dX4_tellerLine_157 : decode cX4_tellerLine 157 = .ok (.iastore, 1) := dk_79 (dk_at dksX4_tellerLine_6 18 rfl rfl)
theorem dX4_tellerLine_158 : decode cX4_tellerLine 158 = .ok (.aload_n 0, 1) := dk_42 (dk_at dksX4_tellerLine_6 19 rfl rfl)
theorem dX4_tellerLine_159 : decode cX4_tellerLine 159 = .ok (.invokevirtual 171, 3) := dk_182 0 171 (dk_at dksX4_tellerLine_6 20 rfl rfl)
theorem dX4_tellerLine_162 : decode cX4_tellerLine 162 = .ok (.aload_n 0, 1) := dk_42 (dk_at dksX4_tellerLine_6 23 rfl rfl)
theorem dX4_tellerLine_163 : decode cX4_tellerLine 163 = .ok (.bipush 13, 2) := dk_16 13 (dk_at dksX4_tellerLine_7 0 rfl rfl)
theorem dX4_tellerLine_165 : decode cX4_tellerLine 165 = .ok (.invokevirtual 165, 3) := dk_182 0 165 (dk_at dksX4_tellerLine_7 2 rfl rfl)
theorem dX4_tellerLine_168 : decode cX4_tellerLine 168 = .ok (.ifCond .eq 42, 3) := dk_153 0 42 (dk_at dksX4_tellerLine_7 5 rfl rfl)
theorem dX4_tellerLine_171 : decode cX4_tellerLine 171 = .ok (.aload_n 0, 1) := dk_42 (dk_at dksX4_tellerLine_7 8 rfl rfl)
theorem dX4_tellerLine_172 : decode cX4_tellerLine 172 = .ok (.invokevirtual 171, 3) := dk_182 0 171 (dk_at dksX4_tellerLine_7 9 rfl rfl)
theorem dX4_tellerLine_175 : decode cX4_tellerLine 175 = .ok (.aload_n 0, 1) := dk_42 (dk_at dksX4_tellerLine_7 12 rfl rfl)
theorem dX4_tellerLine_176 : decode cX4_tellerLine 176 = .ok (.aload_n 0, 1) := dk_42 (dk_at dksX4_tellerLine_7 13 rfl rfl)
theorem dX4_tellerLine_177 : decode cX4_tellerLine 177 = .ok (.getfield 41, 3) := dk_180 0 41 (dk_at dksX4_tellerLine_7 14 rfl rfl)
theorem dX4_tellerLine_180 : decode cX4_tellerLine 180 = .ok (.iload_n 1, 1) := dk_27 (dk_at dksX4_tellerLine_7 17 rfl rfl)
theorem dX4_tellerLine_181 : decode cX4_tellerLine 181 = .ok (.iaload, 1) := dk_46 (dk_at dksX4_tellerLine_7 18 rfl rfl)
theorem dX4_tellerLine_182 : decode cX4_tellerLine 182 = .ok (.aload_n 0, 1) := dk_42 (dk_at dksX4_tellerLine_7 19 rfl rfl)
theorem dX4_tellerLine_183 : decode cX4_tellerLine 183 = .ok (.getfield 44, 3) := dk_180 0 44 (dk_at dksX4_tellerLine_7 20 rfl rfl)
theorem dX4_tellerLine_186 : decode cX4_tellerLine 186 = .ok (.iload_n 1, 1) := dk_27 (dk_at dksX4_tellerLine_7 23 rfl rfl)
theorem dX4_tellerLine_187 : decode cX4_tellerLine 187 = .ok (.iaload, 1) := dk_46 (dk_at dksX4_tellerLine_8 0 rfl rfl)
theorem dX4_tellerLine_188 : decode cX4_tellerLine 188 = .ok (.invokevirtual 228, 3) := dk_182 0 228 (dk_at dksX4_tellerLine_8 1 rfl rfl)
theorem dX4_tellerLine_191 : decode cX4_tellerLine 191 = .ok (.ifCond .ne 5, 3) := dk_154 0 5 (dk_at dksX4_tellerLine_8 4 rfl rfl)
theorem dX4_tellerLine_194 : decode cX4_tellerLine 194 = .ok (.iconst 0, 1) := dk_3 (dk_at dksX4_tellerLine_8 7 rfl rfl)
theorem dX4_tellerLine_195 : decode cX4_tellerLine 195 = .ok (.ireturn, 1) := dk_172 (dk_at dksX4_tellerLine_8 8 rfl rfl)
theorem dX4_tellerLine_196 : decode cX4_tellerLine 196 = .ok (.aload_n 0, 1) := dk_42 (dk_at dksX4_tellerLine_8 9 rfl rfl)
theorem dX4_tellerLine_197 : decode cX4_tellerLine 197 = .ok (.getfield 47, 3) := dk_180 0 47 (dk_at dksX4_tellerLine_8 10 rfl rfl)
theorem dX4_tellerLine_200 : decode cX4_tellerLine 200 = .ok (.iload_n 1, 1) := dk_27 (dk_at dksX4_tellerLine_8 13 rfl rfl)
theorem dX4_tellerLine_201 : decode cX4_tellerLine 201 = .ok (.aload_n 0, 1) := dk_42 (dk_at dksX4_tellerLine_8 14 rfl rfl)
theorem dX4_tellerLine_202 : decode cX4_tellerLine 202 = .ok (.getfield 153, 3) := dk_180 0 153 (dk_at dksX4_tellerLine_8 15 rfl rfl)
theorem dX4_tellerLine_205 : decode cX4_tellerLine 205 = .ok (.iastore, 1) := dk_79 (dk_at dksX4_tellerLine_8 18 rfl rfl)
theorem dX4_tellerLine_206 : decode cX4_tellerLine 206 = .ok (.aload_n 0, 1) := dk_42 (dk_at dksX4_tellerLine_8 19 rfl rfl)
theorem dX4_tellerLine_207 : decode cX4_tellerLine 207 = .ok (.invokevirtual 171, 3) := dk_182 0 171 (dk_at dksX4_tellerLine_8 20 rfl rfl)
theorem dX4_tellerLine_210 : decode cX4_tellerLine 210 = .ok (.aload_n 0, 1) := dk_42 (dk_at dksX4_tellerLine_8 23 rfl rfl)
theorem dX4_tellerLine_211 : decode cX4_tellerLine 211 = .ok (.getfield 35, 3) := dk_180 0 35 (dk_at dksX4_tellerLine_9 0 rfl rfl)
theorem dX4_tellerLine_214 : decode cX4_tellerLine 214 = .ok (.iload_n 1, 1) := dk_27 (dk_at dksX4_tellerLine_9 3 rfl rfl)
theorem dX4_tellerLine_215 : decode cX4_tellerLine 215 = .ok (.iload_n 2, 1) := dk_28 (dk_at dksX4_tellerLine_9 4 rfl rfl)
theorem dX4_tellerLine_216 : decode cX4_tellerLine 216 = .ok (.iastore, 1) := dk_79 (dk_at dksX4_tellerLine_9 5 rfl rfl)
theorem dX4_tellerLine_217 : decode cX4_tellerLine 217 = .ok (.aload_n 0, 1) := dk_42 (dk_at dksX4_tellerLine_9 6 rfl rfl)
theorem dX4_tellerLine_218 : decode cX4_tellerLine 218 = .ok (.dup, 1) := dk_89 (dk_at dksX4_tellerLine_9 7 rfl rfl)
theorem dX4_tellerLine_219 : decode cX4_tellerLine 219 = .ok (.getfield 177, 3) := dk_180 0 177 (dk_at dksX4_tellerLine_9 8 rfl rfl)
theorem dX4_tellerLine_222 : decode cX4_tellerLine 222 = .ok (.iconst 1, 1) := dk_4 (dk_at dksX4_tellerLine_9 11 rfl rfl)
theorem dX4_tellerLine_223 : decode cX4_tellerLine 223 = .ok (.iadd, 1) := dk_96 (dk_at dksX4_tellerLine_9 12 rfl rfl)
theorem dX4_tellerLine_224 : decode cX4_tellerLine 224 = .ok (.putfield 177, 3) := dk_181 0 177 (dk_at dksX4_tellerLine_9 13 rfl rfl)
theorem dX4_tellerLine_227 : decode cX4_tellerLine 227 = .ok (.iconst 1, 1) := dk_4 (dk_at dksX4_tellerLine_9 16 rfl rfl)
theorem dX4_tellerLine_228 : decode cX4_tellerLine 228 = .ok (.ireturn, 1) := dk_172 (dk_at dksX4_tellerLine_9 17 rfl rfl)
abbrev cX4_talkLine : ByteArray := prog_18_method_27_code
def yX4_talkLine : MethodName := ⟨RX4, "talkLine", "(Z)Z"⟩
def dkwX4_talkLine_11 : List UInt8 := [180, 0, 180, 4, 96, 181, 0, 180, 4, 172]
abbrev dktX4_talkLine_11 : List UInt8 := dkwX4_talkLine_11 ++ []
def dkwX4_talkLine_10 : List UInt8 := [28, 21, 4, 79, 42, 180, 0, 60, 28, 21, 5, 79, 42, 180, 0, 63, 28, 21, 6, 79, 42, 89]
abbrev dktX4_talkLine_10 : List UInt8 := dkwX4_talkLine_10 ++ dktX4_talkLine_11
def dkwX4_talkLine_9 : List UInt8 := [54, 6, 42, 182, 0, 171, 42, 180, 0, 50, 28, 27, 84, 42, 180, 0, 54, 28, 29, 79, 42, 180, 0, 57]
abbrev dktX4_talkLine_9 : List UInt8 := dkwX4_talkLine_9 ++ dktX4_talkLine_10
def dkwX4_talkLine_8 : List UInt8 := [180, 0, 23, 16, 8, 21, 5, 96, 46, 4, 100, 182, 0, 228, 154, 0, 5, 3, 172, 42, 180, 0, 153]
abbrev dktX4_talkLine_8 : List UInt8 := dkwX4_talkLine_8 ++ dktX4_talkLine_9
def dkwX4_talkLine_7 : List UInt8 := [54, 5, 42, 182, 0, 171, 2, 54, 6, 27, 154, 0, 11, 42, 180, 0, 142, 6, 160, 0, 35, 42, 3, 42]
abbrev dktX4_talkLine_7 : List UInt8 := dkwX4_talkLine_7 ++ dktX4_talkLine_8
def dkwX4_talkLine_6 : List UInt8 := [154, 0, 5, 3, 172, 42, 42, 180, 0, 20, 16, 8, 42, 180, 0, 174, 42, 180, 0, 153, 182, 0, 220]
abbrev dktX4_talkLine_6 : List UInt8 := dkwX4_talkLine_6 ++ dktX4_talkLine_7
def dkwX4_talkLine_5 : List UInt8 := [180, 0, 153, 54, 4, 42, 182, 0, 171, 42, 42, 180, 0, 20, 16, 8, 42, 180, 0, 174, 182, 0, 235]
abbrev dktX4_talkLine_5 : List UInt8 := dkwX4_talkLine_5 ++ dktX4_talkLine_6
def dkwX4_talkLine_4 : List UInt8 := [180, 0, 153, 42, 16, 60, 42, 180, 0, 180, 29, 182, 0, 238, 162, 0, 9, 42, 8, 182, 0, 168, 172, 42]
abbrev dktX4_talkLine_4 : List UInt8 := dkwX4_talkLine_4 ++ dktX4_talkLine_5
def dkwX4_talkLine_3 : List UInt8 := [180, 0, 41, 8, 29, 96, 46, 42, 180, 0, 44, 8, 29, 96, 46, 182, 0, 228, 154, 0, 5, 3, 172, 42]
abbrev dktX4_talkLine_3 : List UInt8 := dkwX4_talkLine_3 ++ dktX4_talkLine_4
def dkwX4_talkLine_2 : List UInt8 := [180, 0, 35, 8, 42, 180, 0, 177, 42, 180, 0, 153, 182, 0, 220, 62, 42, 182, 0, 171, 42, 42]
abbrev dktX4_talkLine_2 : List UInt8 := dkwX4_talkLine_2 ++ dktX4_talkLine_3
def dkwX4_talkLine_1 : List UInt8 := [8, 42, 180, 0, 177, 182, 0, 235, 154, 0, 5, 3, 172, 16, 60, 42, 180, 0, 180, 96, 61, 42, 42]
abbrev dktX4_talkLine_1 : List UInt8 := dkwX4_talkLine_1 ++ dktX4_talkLine_2
def dkwX4_talkLine_0 : List UInt8 := [42, 180, 0, 180, 16, 40, 160, 0, 9, 42, 5, 182, 0, 168, 172, 42, 182, 0, 171, 42, 42, 180, 0, 35]
abbrev dktX4_talkLine_0 : List UInt8 := dkwX4_talkLine_0 ++ dktX4_talkLine_1
theorem dksX4_talkLine_0 : cX4_talkLine.data.toList.drop 0 = dktX4_talkLine_0 := by decide +kernel
theorem dksX4_talkLine_1 : cX4_talkLine.data.toList.drop 24 = dktX4_talkLine_1 := dk_seg dksX4_talkLine_0 24 rfl rfl
theorem dksX4_talkLine_2 : cX4_talkLine.data.toList.drop 47 = dktX4_talkLine_2 := dk_seg dksX4_talkLine_1 23 rfl rfl
theorem dksX4_talkLine_3 : cX4_talkLine.data.toList.drop 69 = dktX4_talkLine_3 := dk_seg dksX4_talkLine_2 22 rfl rfl
theorem dksX4_talkLine_4 : cX4_talkLine.data.toList.drop 93 = dktX4_talkLine_4 := dk_seg dksX4_talkLine_3 24 rfl rfl
theorem dksX4_talkLine_5 : cX4_talkLine.data.toList.drop 117 = dktX4_talkLine_5 := dk_seg dksX4_talkLine_4 24 rfl rfl
theorem dksX4_talkLine_6 : cX4_talkLine.data.toList.drop 140 = dktX4_talkLine_6 := dk_seg dksX4_talkLine_5 23 rfl rfl
theorem dksX4_talkLine_7 : cX4_talkLine.data.toList.drop 163 = dktX4_talkLine_7 := dk_seg dksX4_talkLine_6 23 rfl rfl
theorem dksX4_talkLine_8 : cX4_talkLine.data.toList.drop 187 = dktX4_talkLine_8 := dk_seg dksX4_talkLine_7 24 rfl rfl
theorem dksX4_talkLine_9 : cX4_talkLine.data.toList.drop 210 = dktX4_talkLine_9 := dk_seg dksX4_talkLine_8 23 rfl rfl
theorem dksX4_talkLine_10 : cX4_talkLine.data.toList.drop 234 = dktX4_talkLine_10 := dk_seg dksX4_talkLine_9 24 rfl rfl
theorem dksX4_talkLine_11 : cX4_talkLine.data.toList.drop 256 = dktX4_talkLine_11 := dk_seg dksX4_talkLine_10 22 rfl rfl
theorem dX4_talkLine_0 : decode cX4_talkLine 0 = .ok (.aload_n 0, 1) := dk_42 (dk_at dksX4_talkLine_0 0 rfl rfl)
theorem dX4_talkLine_1 : decode cX4_talkLine 1 = .ok (.getfield 180, 3) := dk_180 0 180 (dk_at dksX4_talkLine_0 1 rfl rfl)
theorem dX4_talkLine_4 : decode cX4_talkLine 4 = .ok (.bipush 40, 2) := dk_16 40 (dk_at dksX4_talkLine_0 4 rfl rfl)
theorem dX4_talkLine_6 : decode cX4_talkLine 6 = .ok (.if_icmp .ne 9, 3) := dk_160 0 9 (dk_at dksX4_talkLine_0 6 rfl rfl)
theorem dX4_talkLine_9 : decode cX4_talkLine 9 = .ok (.aload_n 0, 1) := dk_42 (dk_at dksX4_talkLine_0 9 rfl rfl)
theorem dX4_talkLine_10 : decode cX4_talkLine 10 = .ok (.iconst 2, 1) := dk_5 (dk_at dksX4_talkLine_0 10 rfl rfl)
theorem dX4_talkLine_11 : decode cX4_talkLine 11 = .ok (.invokevirtual 168, 3) := dk_182 0 168 (dk_at dksX4_talkLine_0 11 rfl rfl)
theorem dX4_talkLine_14 : decode cX4_talkLine 14 = .ok (.ireturn, 1) := dk_172 (dk_at dksX4_talkLine_0 14 rfl rfl)
theorem dX4_talkLine_15 : decode cX4_talkLine 15 = .ok (.aload_n 0, 1) := dk_42 (dk_at dksX4_talkLine_0 15 rfl rfl)
theorem dX4_talkLine_16 : decode cX4_talkLine 16 = .ok (.invokevirtual 171, 3) := dk_182 0 171 (dk_at dksX4_talkLine_0 16 rfl rfl)
theorem dX4_talkLine_19 : decode cX4_talkLine 19 = .ok (.aload_n 0, 1) := dk_42 (dk_at dksX4_talkLine_0 19 rfl rfl)
theorem dX4_talkLine_20 : decode cX4_talkLine 20 = .ok (.aload_n 0, 1) := dk_42 (dk_at dksX4_talkLine_0 20 rfl rfl)
theorem dX4_talkLine_21 : decode cX4_talkLine 21 = .ok (.getfield 35, 3) := dk_180 0 35 (dk_at dksX4_talkLine_0 21 rfl rfl)
theorem dX4_talkLine_24 : decode cX4_talkLine 24 = .ok (.iconst 5, 1) := dk_8 (dk_at dksX4_talkLine_1 0 rfl rfl)
theorem dX4_talkLine_25 : decode cX4_talkLine 25 = .ok (.aload_n 0, 1) := dk_42 (dk_at dksX4_talkLine_1 1 rfl rfl)
theorem dX4_talkLine_26 : decode cX4_talkLine 26 = .ok (.getfield 177, 3) := dk_180 0 177 (dk_at dksX4_talkLine_1 2 rfl rfl)
theorem dX4_talkLine_29 : decode cX4_talkLine 29 = .ok (.invokevirtual 235, 3) := dk_182 0 235 (dk_at dksX4_talkLine_1 5 rfl rfl)
theorem dX4_talkLine_32 : decode cX4_talkLine 32 = .ok (.ifCond .ne 5, 3) := dk_154 0 5 (dk_at dksX4_talkLine_1 8 rfl rfl)
theorem dX4_talkLine_35 : decode cX4_talkLine 35 = .ok (.iconst 0, 1) := dk_3 (dk_at dksX4_talkLine_1 11 rfl rfl)
theorem dX4_talkLine_36 : decode cX4_talkLine 36 = .ok (.ireturn, 1) := dk_172 (dk_at dksX4_talkLine_1 12 rfl rfl)
theorem dX4_talkLine_37 : decode cX4_talkLine 37 = .ok (.bipush 60, 2) := dk_16 60 (dk_at dksX4_talkLine_1 13 rfl rfl)
theorem dX4_talkLine_39 : decode cX4_talkLine 39 = .ok (.aload_n 0, 1) := dk_42 (dk_at dksX4_talkLine_1 15 rfl rfl)
theorem dX4_talkLine_40 : decode cX4_talkLine 40 = .ok (.getfield 180, 3) := dk_180 0 180 (dk_at dksX4_talkLine_1 16 rfl rfl)
theorem dX4_talkLine_43 : decode cX4_talkLine 43 = .ok (.iadd, 1) := dk_96 (dk_at dksX4_talkLine_1 19 rfl rfl)
theorem dX4_talkLine_44 : decode cX4_talkLine 44 = .ok (.istore_n 2, 1) := dk_61 (dk_at dksX4_talkLine_1 20 rfl rfl)
theorem dX4_talkLine_45 : decode cX4_talkLine 45 = .ok (.aload_n 0, 1) := dk_42 (dk_at dksX4_talkLine_1 21 rfl rfl)
theorem dX4_talkLine_46 : decode cX4_talkLine 46 = .ok (.aload_n 0, 1) := dk_42 (dk_at dksX4_talkLine_1 22 rfl rfl)
theorem dX4_talkLine_47 : decode cX4_talkLine 47 = .ok (.getfield 35, 3) := dk_180 0 35 (dk_at dksX4_talkLine_2 0 rfl rfl)
theorem dX4_talkLine_50 : decode cX4_talkLine 50 = .ok (.iconst 5, 1) := dk_8 (dk_at dksX4_talkLine_2 3 rfl rfl)
theorem dX4_talkLine_51 : decode cX4_talkLine 51 = .ok (.aload_n 0, 1) := dk_42 (dk_at dksX4_talkLine_2 4 rfl rfl)
theorem dX4_talkLine_52 : decode cX4_talkLine 52 = .ok (.getfield 177, 3) := dk_180 0 177 (dk_at dksX4_talkLine_2 5 rfl rfl)
theorem dX4_talkLine_55 : decode cX4_talkLine 55 = .ok (.aload_n 0, 1) := dk_42 (dk_at dksX4_talkLine_2 8 rfl rfl)
theorem dX4_talkLine_56 : decode cX4_talkLine 56 = .ok (.getfield 153, 3) := dk_180 0 153 (dk_at dksX4_talkLine_2 9 rfl rfl)
theorem dX4_talkLine_59 : decode cX4_talkLine 59 = .ok (.invokevirtual 220, 3) := dk_182 0 220 (dk_at dksX4_talkLine_2 12 rfl rfl)
theorem dX4_talkLine_62 : decode cX4_talkLine 62 = .ok (.istore_n 3, 1) := dk_62 (dk_at dksX4_talkLine_2 15 rfl rfl)
theorem dX4_talkLine_63 : decode cX4_talkLine 63 = .ok (.aload_n 0, 1) := dk_42 (dk_at dksX4_talkLine_2 16 rfl rfl)
theorem dX4_talkLine_64 : decode cX4_talkLine 64 = .ok (.invokevirtual 171, 3) := dk_182 0 171 (dk_at dksX4_talkLine_2 17 rfl rfl)
theorem dX4_talkLine_67 : decode cX4_talkLine 67 = .ok (.aload_n 0, 1) := dk_42 (dk_at dksX4_talkLine_2 20 rfl rfl)
theorem dX4_talkLine_68 : decode cX4_talkLine 68 = .ok (.aload_n 0, 1) := dk_42 (dk_at dksX4_talkLine_2 21 rfl rfl)
theorem dX4_talkLine_69 : decode cX4_talkLine 69 = .ok (.getfield 41, 3) := dk_180 0 41 (dk_at dksX4_talkLine_3 0 rfl rfl)
theorem dX4_talkLine_72 : decode cX4_talkLine 72 = .ok (.iconst 5, 1) := dk_8 (dk_at dksX4_talkLine_3 3 rfl rfl)
theorem dX4_talkLine_73 : decode cX4_talkLine 73 = .ok (.iload_n 3, 1) := dk_29 (dk_at dksX4_talkLine_3 4 rfl rfl)
theorem dX4_talkLine_74 : decode cX4_talkLine 74 = .ok (.iadd, 1) := dk_96 (dk_at dksX4_talkLine_3 5 rfl rfl)
theorem dX4_talkLine_75 : decode cX4_talkLine 75 = .ok (.iaload, 1) := dk_46 (dk_at dksX4_talkLine_3 6 rfl rfl)
theorem dX4_talkLine_76 : decode cX4_talkLine 76 = .ok (.aload_n 0, 1) := dk_42 (dk_at dksX4_talkLine_3 7 rfl rfl)
theorem dX4_talkLine_77 : decode cX4_talkLine 77 = .ok (.getfield 44, 3) := dk_180 0 44 (dk_at dksX4_talkLine_3 8 rfl rfl)
theorem dX4_talkLine_80 : decode cX4_talkLine 80 = .ok (.iconst 5, 1) := dk_8 (dk_at dksX4_talkLine_3 11 rfl rfl)
theorem dX4_talkLine_81 : decode cX4_talkLine 81 = .ok (.iload_n 3, 1) := dk_29 (dk_at dksX4_talkLine_3 12 rfl rfl)
theorem dX4_talkLine_82 : decode cX4_talkLine 82 = .ok (.iadd, 1) := dk_96 (dk_at dksX4_talkLine_3 13 rfl rfl)
theorem dX4_talkLine_83 : decode cX4_talkLine 83 = .ok (.iaload, 1) := dk_46 (dk_at dksX4_talkLine_3 14 rfl rfl)
theorem dX4_talkLine_84 : decode cX4_talkLine 84 = .ok (.invokevirtual 228, 3) := dk_182 0 228 (dk_at dksX4_talkLine_3 15 rfl rfl)
theorem dX4_talkLine_87 : decode cX4_talkLine 87 = .ok (.ifCond .ne 5, 3) := dk_154 0 5 (dk_at dksX4_talkLine_3 18 rfl rfl)
theorem dX4_talkLine_90 : decode cX4_talkLine 90 = .ok (.iconst 0, 1) := dk_3 (dk_at dksX4_talkLine_3 21 rfl rfl)
theorem dX4_talkLine_91 : decode cX4_talkLine 91 = .ok (.ireturn, 1) := dk_172 (dk_at dksX4_talkLine_3 22 rfl rfl)
theorem dX4_talkLine_92 : decode cX4_talkLine 92 = .ok (.aload_n 0, 1) := dk_42 (dk_at dksX4_talkLine_3 23 rfl rfl)
theorem dX4_talkLine_93 : decode cX4_talkLine 93 = .ok (.getfield 153, 3) := dk_180 0 153 (dk_at dksX4_talkLine_4 0 rfl rfl)
theorem dX4_talkLine_96 : decode cX4_talkLine 96 = .ok (.aload_n 0, 1) := dk_42 (dk_at dksX4_talkLine_4 3 rfl rfl)
theorem dX4_talkLine_97 : decode cX4_talkLine 97 = .ok (.bipush 60, 2) := dk_16 60 (dk_at dksX4_talkLine_4 4 rfl rfl)
theorem dX4_talkLine_99 : decode cX4_talkLine 99 = .ok (.aload_n 0, 1) := dk_42 (dk_at dksX4_talkLine_4 6 rfl rfl)
theorem dX4_talkLine_100 : decode cX4_talkLine 100 = .ok (.getfield 180, 3) := dk_180 0 180 (dk_at dksX4_talkLine_4 7 rfl rfl)
theorem dX4_talkLine_103 : decode cX4_talkLine 103 = .ok (.iload_n 3, 1) := dk_29 (dk_at dksX4_talkLine_4 10 rfl rfl)
theorem dX4_talkLine_104 : decode cX4_talkLine 104 = .ok (.invokevirtual 238, 3) := dk_182 0 238 (dk_at dksX4_talkLine_4 11 rfl rfl)
theorem dX4_talkLine_107 : decode cX4_talkLine 107 = .ok (.if_icmp .ge 9, 3) := dk_162 0 9 (dk_at dksX4_talkLine_4 14 rfl rfl)
theorem dX4_talkLine_110 : decode cX4_talkLine 110 = .ok (.aload_n 0, 1) := dk_42 (dk_at dksX4_talkLine_4 17 rfl rfl)
theorem dX4_talkLine_111 : decode cX4_talkLine 111 = .ok (.iconst 5, 1) := dk_8 (dk_at dksX4_talkLine_4 18 rfl rfl)
theorem dX4_talkLine_112 : decode cX4_talkLine 112 = .ok (.invokevirtual 168, 3) := dk_182 0 168 (dk_at dksX4_talkLine_4 19 rfl rfl)
theorem dX4_talkLine_115 : decode cX4_talkLine 115 = .ok (.ireturn, 1) := dk_172 (dk_at dksX4_talkLine_4 22 rfl rfl)
theorem dX4_talkLine_116 : decode cX4_talkLine 116 = .ok (.aload_n 0, 1) := dk_42 (dk_at dksX4_talkLine_4 23 rfl rfl)
theorem dX4_talkLine_117 : decode cX4_talkLine 117 = .ok (.getfield 153, 3) := dk_180 0 153 (dk_at dksX4_talkLine_5 0 rfl rfl)
theorem dX4_talkLine_120 : decode cX4_talkLine 120 = .ok (.istore 4, 2) := dk_54 4 (dk_at dksX4_talkLine_5 3 rfl rfl)
theorem dX4_talkLine_122 : decode cX4_talkLine 122 = .ok (.aload_n 0, 1) := dk_42 (dk_at dksX4_talkLine_5 5 rfl rfl)
theorem dX4_talkLine_123 : decode cX4_talkLine 123 = .ok (.invokevirtual 171, 3) := dk_182 0 171 (dk_at dksX4_talkLine_5 6 rfl rfl)
theorem dX4_talkLine_126 : decode cX4_talkLine 126 = .ok (.aload_n 0, 1) := dk_42 (dk_at dksX4_talkLine_5 9 rfl rfl)
theorem dX4_talkLine_127 : decode cX4_talkLine 127 = .ok (.aload_n 0, 1) := dk_42 (dk_at dksX4_talkLine_5 10 rfl rfl)
theorem dX4_talkLine_128 : decode cX4_talkLine 128 = .ok (.getfield 20, 3) := dk_180 0 20 (dk_at dksX4_talkLine_5 11 rfl rfl)
theorem dX4_talkLine_131 : decode cX4_talkLine 131 = .ok (.bipush 8, 2) := dk_16 8 (dk_at dksX4_talkLine_5 14 rfl rfl)
theorem dX4_talkLine_133 : decode cX4_talkLine 133 = .ok (.aload_n 0, 1) := dk_42 (dk_at dksX4_talkLine_5 16 rfl rfl)
theorem dX4_talkLine_134 : decode cX4_talkLine 134 = .ok (.getfield 174, 3) := dk_180 0 174 (dk_at dksX4_talkLine_5 17 rfl rfl)
theorem dX4_talkLine_137 : decode cX4_talkLine 137 = .ok (.invokevirtual 235, 3) := dk_182 0 235 (dk_at dksX4_talkLine_5 20 rfl rfl)
theorem dX4_talkLine_140 : decode cX4_talkLine 140 = .ok (.ifCond .ne 5, 3) := dk_154 0 5 (dk_at dksX4_talkLine_6 0 rfl rfl)
theorem dX4_talkLine_143 : decode cX4_talkLine 143 = .ok (.iconst 0, 1) := dk_3 (dk_at dksX4_talkLine_6 3 rfl rfl)
theorem dX4_talkLine_144 : decode cX4_talkLine 144 = .ok (.ireturn, 1) := dk_172 (dk_at dksX4_talkLine_6 4 rfl rfl)
theorem dX4_talkLine_145 : decode cX4_talkLine 145 = .ok (.aload_n 0, 1) := dk_42 (dk_at dksX4_talkLine_6 5 rfl rfl)
theorem dX4_talkLine_146 : decode cX4_talkLine 146 = .ok (.aload_n 0, 1) := dk_42 (dk_at dksX4_talkLine_6 6 rfl rfl)
theorem dX4_talkLine_147 : decode cX4_talkLine 147 = .ok (.getfield 20, 3) := dk_180 0 20 (dk_at dksX4_talkLine_6 7 rfl rfl)
theorem dX4_talkLine_150 : decode cX4_talkLine 150 = .ok (.bipush 8, 2) := dk_16 8 (dk_at dksX4_talkLine_6 10 rfl rfl)
theorem dX4_talkLine_152 : decode cX4_talkLine 152 = .ok (.aload_n 0, 1) := dk_42 (dk_at dksX4_talkLine_6 12 rfl rfl)
theorem dX4_talkLine_153 : decode cX4_talkLine 153 = .ok (.getfield 174, 3) := dk_180 0 174 (dk_at dksX4_talkLine_6 13 rfl rfl)
theorem dX4_talkLine_156 : decode cX4_talkLine 156 = .ok (.aload_n 0, 1) := dk_42 (dk_at dksX4_talkLine_6 16 rfl rfl)
theorem dX4_talkLine_157 : decode cX4_talkLine 157 = .ok (.getfield 153, 3) := dk_180 0 153 (dk_at dksX4_talkLine_6 17 rfl rfl)
theorem dX4_talkLine_160 : decode cX4_talkLine 160 = .ok (.invokevirtual 220, 3) := dk_182 0 220 (dk_at dksX4_talkLine_6 20 rfl rfl)
theorem dX4_talkLine_163 : decode cX4_talkLine 163 = .ok (.istore 5, 2) := dk_54 5 (dk_at dksX4_talkLine_7 0 rfl rfl)
theorem dX4_talkLine_165 : decode cX4_talkLine 165 = .ok (.aload_n 0, 1) := dk_42 (dk_at dksX4_talkLine_7 2 rfl rfl)
theorem dX4_talkLine_166 : decode cX4_talkLine 166 = .ok (.invokevirtual 171, 3) := dk_182 0 171 (dk_at dksX4_talkLine_7 3 rfl rfl)
theorem dX4_talkLine_169 : decode cX4_talkLine 169 = .ok (.iconst (-1), 1) := dk_2 (dk_at dksX4_talkLine_7 6 rfl rfl)
theorem dX4_talkLine_170 : decode cX4_talkLine 170 = .ok (.istore 6, 2) := dk_54 6 (dk_at dksX4_talkLine_7 7 rfl rfl)
theorem dX4_talkLine_172 : decode cX4_talkLine 172 = .ok (.iload_n 1, 1) := dk_27 (dk_at dksX4_talkLine_7 9 rfl rfl)
theorem dX4_talkLine_173 : decode cX4_talkLine 173 = .ok (.ifCond .ne 11, 3) := dk_154 0 11 (dk_at dksX4_talkLine_7 10 rfl rfl)
theorem dX4_talkLine_176 : decode cX4_talkLine 176 = .ok (.aload_n 0, 1) := dk_42 (dk_at dksX4_talkLine_7 13 rfl rfl)
theorem dX4_talkLine_177 : decode cX4_talkLine 177 = .ok (.getfield 142, 3) := dk_180 0 142 (dk_at dksX4_talkLine_7 14 rfl rfl)
theorem dX4_talkLine_180 : decode cX4_talkLine 180 = .ok (.iconst 3, 1) := dk_6 (dk_at dksX4_talkLine_7 17 rfl rfl)
theorem dX4_talkLine_181 : decode cX4_talkLine 181 = .ok (.if_icmp .ne 35, 3) := dk_160 0 35 (dk_at dksX4_talkLine_7 18 rfl rfl)
theorem dX4_talkLine_184 : decode cX4_talkLine 184 = .ok (.aload_n 0, 1) := dk_42 (dk_at dksX4_talkLine_7 21 rfl rfl)
theorem dX4_talkLine_185 : decode cX4_talkLine 185 = .ok (.iconst 0, 1) := dk_3 (dk_at dksX4_talkLine_7 22 rfl rfl)
theorem dX4_talkLine_186 : decode cX4_talkLine 186 = .ok (.aload_n 0, 1) := dk_42 (dk_at dksX4_talkLine_7 23 rfl rfl)
theorem dX4_talkLine_187 : decode cX4_talkLine 187 = .ok (.getfield 23, 3) := dk_180 0 23 (dk_at dksX4_talkLine_8 0 rfl rfl)
theorem dX4_talkLine_190 : decode cX4_talkLine 190 = .ok (.bipush 8, 2) := dk_16 8 (dk_at dksX4_talkLine_8 3 rfl rfl)
theorem dX4_talkLine_192 : decode cX4_talkLine 192 = .ok (.iload 5, 2) := dk_21 5 (dk_at dksX4_talkLine_8 5 rfl rfl)
theorem dX4_talkLine_194 : decode cX4_talkLine 194 = .ok (.iadd, 1) := dk_96 (dk_at dksX4_talkLine_8 7 rfl rfl)
theorem dX4_talkLine_195 : decode cX4_talkLine 195 = .ok (.iaload, 1) := dk_46 (dk_at dksX4_talkLine_8 8 rfl rfl)
theorem dX4_talkLine_196 : decode cX4_talkLine 196 = .ok (.iconst 1, 1) := dk_4 (dk_at dksX4_talkLine_8 9 rfl rfl)
theorem dX4_talkLine_197 : decode cX4_talkLine 197 = .ok (.isub, 1) := dk_100 (dk_at dksX4_talkLine_8 10 rfl rfl)
theorem dX4_talkLine_198 : decode cX4_talkLine 198 = .ok (.invokevirtual 228, 3) := dk_182 0 228 (dk_at dksX4_talkLine_8 11 rfl rfl)
theorem dX4_talkLine_201 : decode cX4_talkLine 201 = .ok (.ifCond .ne 5, 3) := dk_154 0 5 (dk_at dksX4_talkLine_8 14 rfl rfl)
theorem dX4_talkLine_204 : decode cX4_talkLine 204 = .ok (.iconst 0, 1) := dk_3 (dk_at dksX4_talkLine_8 17 rfl rfl)
theorem dX4_talkLine_205 : decode cX4_talkLine 205 = .ok (.ireturn, 1) := dk_172 (dk_at dksX4_talkLine_8 18 rfl rfl)
theorem dX4_talkLine_206 : decode cX4_talkLine 206 = .ok (.aload_n 0, 1) := dk_42 (dk_at dksX4_talkLine_8 19 rfl rfl)
theorem dX4_talkLine_207 : decode cX4_talkLine 207 = .ok (.getfield 153, 3) := dk_180 0 153 (dk_at dksX4_talkLine_8 20 rfl rfl)
theorem dX4_talkLine_210 : decode cX4_talkLine 210 = .ok (.istore 6, 2) := dk_54 6 (dk_at dksX4_talkLine_9 0 rfl rfl)
theorem dX4_talkLine_212 : decode cX4_talkLine 212 = .ok (.aload_n 0, 1) := dk_42 (dk_at dksX4_talkLine_9 2 rfl rfl)
theorem dX4_talkLine_213 : decode cX4_talkLine 213 = .ok (.invokevirtual 171, 3) := dk_182 0 171 (dk_at dksX4_talkLine_9 3 rfl rfl)
theorem dX4_talkLine_216 : decode cX4_talkLine 216 = .ok (.aload_n 0, 1) := dk_42 (dk_at dksX4_talkLine_9 6 rfl rfl)
theorem dX4_talkLine_217 : decode cX4_talkLine 217 = .ok (.getfield 50, 3) := dk_180 0 50 (dk_at dksX4_talkLine_9 7 rfl rfl)
theorem dX4_talkLine_220 : decode cX4_talkLine 220 = .ok (.iload_n 2, 1) := dk_28 (dk_at dksX4_talkLine_9 10 rfl rfl)
theorem dX4_talkLine_221 : decode cX4_talkLine 221 = .ok (.iload_n 1, 1) := dk_27 (dk_at dksX4_talkLine_9 11 rfl rfl)
theorem dX4_talkLine_222 : decode cX4_talkLine 222 = .ok (.bastore, 1) := dk_84 (dk_at dksX4_talkLine_9 12 rfl rfl)
theorem dX4_talkLine_223 : decode cX4_talkLine 223 = .ok (.aload_n 0, 1) := dk_42 (dk_at dksX4_talkLine_9 13 rfl rfl)
theorem dX4_talkLine_224 : decode cX4_talkLine 224 = .ok (.getfield 54, 3) := dk_180 0 54 (dk_at dksX4_talkLine_9 14 rfl rfl)
theorem dX4_talkLine_227 : decode cX4_talkLine 227 = .ok (.iload_n 2, 1) := dk_28 (dk_at dksX4_talkLine_9 17 rfl rfl)
theorem dX4_talkLine_228 : decode cX4_talkLine 228 = .ok (.iload_n 3, 1) := dk_29 (dk_at dksX4_talkLine_9 18 rfl rfl)
theorem dX4_talkLine_229 : decode cX4_talkLine 229 = .ok (.iastore, 1) := dk_79 (dk_at dksX4_talkLine_9 19 rfl rfl)
theorem dX4_talkLine_230 : decode cX4_talkLine 230 = .ok (.aload_n 0, 1) := dk_42 (dk_at dksX4_talkLine_9 20 rfl rfl)
theorem dX4_talkLine_231 : decode cX4_talkLine 231 = .ok (.getfield 57, 3) := dk_180 0 57 (dk_at dksX4_talkLine_9 21 rfl rfl)
theorem dX4_talkLine_234 : decode cX4_talkLine 234 = .ok (.iload_n 2, 1) := dk_28 (dk_at dksX4_talkLine_10 0 rfl rfl)
theorem dX4_talkLine_235 : decode cX4_talkLine 235 = .ok (.iload 4, 2) := dk_21 4 (dk_at dksX4_talkLine_10 1 rfl rfl)
theorem dX4_talkLine_237 : decode cX4_talkLine 237 = .ok (.iastore, 1) := dk_79 (dk_at dksX4_talkLine_10 3 rfl rfl)
theorem dX4_talkLine_238 : decode cX4_talkLine 238 = .ok (.aload_n 0, 1) := dk_42 (dk_at dksX4_talkLine_10 4 rfl rfl)
theorem dX4_talkLine_239 : decode cX4_talkLine 239 = .ok (.getfield 60, 3) := dk_180 0 60 (dk_at dksX4_talkLine_10 5 rfl rfl)
theorem dX4_talkLine_242 : decode cX4_talkLine 242 = .ok (.iload_n 2, 1) := dk_28 (dk_at dksX4_talkLine_10 8 rfl rfl)
theorem dX4_talkLine_243 : decode cX4_talkLine 243 = .ok (.iload 5, 2) := dk_21 5 (dk_at dksX4_talkLine_10 9 rfl rfl)
theorem dX4_talkLine_245 : decode cX4_talkLine 245 = .ok (.iastore, 1) := dk_79 (dk_at dksX4_talkLine_10 11 rfl rfl)
theorem dX4_talkLine_246 : decode cX4_talkLine 246 = .ok (.aload_n 0, 1) := dk_42 (dk_at dksX4_talkLine_10 12 rfl rfl)
theorem dX4_talkLine_247 : decode cX4_talkLine 247 = .ok (.getfield 63, 3) := dk_180 0 63 (dk_at dksX4_talkLine_10 13 rfl rfl)
theorem dX4_talkLine_250 : decode cX4_talkLine 250 = .ok (.iload_n 2, 1) := dk_28 (dk_at dksX4_talkLine_10 16 rfl rfl)
theorem dX4_talkLine_251 : decode cX4_talkLine 251 = .ok (.iload 6, 2) := dk_21 6 (dk_at dksX4_talkLine_10 17 rfl rfl)
theorem dX4_talkLine_253 : decode cX4_talkLine 253 = .ok (.iastore, 1) := dk_79 (dk_at dksX4_talkLine_10 19 rfl rfl)
theorem dX4_talkLine_254 : decode cX4_talkLine 254 = .ok (.aload_n 0, 1) := dk_42 (dk_at dksX4_talkLine_10 20 rfl rfl)
theorem dX4_talkLine_255 : decode cX4_talkLine 255 = .ok (.dup, 1) := dk_89 (dk_at dksX4_talkLine_10 21 rfl rfl)
theorem dX4_talkLine_256 : decode cX4_talkLine 256 = .ok (.getfield 180, 3) := dk_180 0 180 (dk_at dksX4_talkLine_11 0 rfl rfl)
theorem dX4_talkLine_259 : decode cX4_talkLine 259 = .ok (.iconst 1, 1) := dk_4 (dk_at dksX4_talkLine_11 3 rfl rfl)
theorem dX4_talkLine_260 : decode cX4_talkLine 260 = .ok (.iadd, 1) := dk_96 (dk_at dksX4_talkLine_11 4 rfl rfl)
theorem dX4_talkLine_261 : decode cX4_talkLine 261 = .ok (.putfield 180, 3) := dk_181 0 180 (dk_at dksX4_talkLine_11 5 rfl rfl)
theorem dX4_talkLine_264 : decode cX4_talkLine 264 = .ok (.iconst 1, 1) := dk_4 (dk_at dksX4_talkLine_11 8 rfl rfl)
theorem dX4_talkLine_265 : decode cX4_talkLine 265 = .ok (.ireturn, 1) := dk_172 (dk_at dksX4_talkLine_11 9 rfl rfl)
abbrev cX4_there : ByteArray := prog_18_method_25_code
def yX4_there : MethodName := ⟨RX4, "there", "([III)Z"⟩
def dkwX4_there_1 : List UInt8 := [182, 0, 220, 156, 0, 11, 42, 7, 182, 0, 168, 153, 0, 7, 4, 167, 0, 4, 3, 172]
abbrev dktX4_there_1 : List UInt8 := dkwX4_there_1 ++ []
def dkwX4_there_0 : List UInt8 := [42, 180, 0, 142, 5, 159, 0, 9, 42, 4, 182, 0, 168, 172, 42, 43, 28, 29, 42, 180, 0, 153]
abbrev dktX4_there_0 : List UInt8 := dkwX4_there_0 ++ dktX4_there_1
theorem dksX4_there_0 : cX4_there.data.toList.drop 0 = dktX4_there_0 := by decide +kernel
theorem dksX4_there_1 : cX4_there.data.toList.drop 22 = dktX4_there_1 := dk_seg dksX4_there_0 22 rfl rfl
theorem dX4_there_0 : decode cX4_there 0 = .ok (.aload_n 0, 1) := dk_42 (dk_at dksX4_there_0 0 rfl rfl)
theorem dX4_there_1 : decode cX4_there 1 = .ok (.getfield 142, 3) := dk_180 0 142 (dk_at dksX4_there_0 1 rfl rfl)
theorem dX4_there_4 : decode cX4_there 4 = .ok (.iconst 2, 1) := dk_5 (dk_at dksX4_there_0 4 rfl rfl)
theorem dX4_there_5 : decode cX4_there 5 = .ok (.if_icmp .eq 9, 3) := dk_159 0 9 (dk_at dksX4_there_0 5 rfl rfl)
theorem dX4_there_8 : decode cX4_there 8 = .ok (.aload_n 0, 1) := dk_42 (dk_at dksX4_there_0 8 rfl rfl)
theorem dX4_there_9 : decode cX4_there 9 = .ok (.iconst 1, 1) := dk_4 (dk_at dksX4_there_0 9 rfl rfl)
theorem dX4_there_10 : decode cX4_there 10 = .ok (.invokevirtual 168, 3) := dk_182 0 168 (dk_at dksX4_there_0 10 rfl rfl)
theorem dX4_there_13 : decode cX4_there 13 = .ok (.ireturn, 1) := dk_172 (dk_at dksX4_there_0 13 rfl rfl)
theorem dX4_there_14 : decode cX4_there 14 = .ok (.aload_n 0, 1) := dk_42 (dk_at dksX4_there_0 14 rfl rfl)
theorem dX4_there_15 : decode cX4_there 15 = .ok (.aload_n 1, 1) := dk_43 (dk_at dksX4_there_0 15 rfl rfl)
theorem dX4_there_16 : decode cX4_there 16 = .ok (.iload_n 2, 1) := dk_28 (dk_at dksX4_there_0 16 rfl rfl)
theorem dX4_there_17 : decode cX4_there 17 = .ok (.iload_n 3, 1) := dk_29 (dk_at dksX4_there_0 17 rfl rfl)
theorem dX4_there_18 : decode cX4_there 18 = .ok (.aload_n 0, 1) := dk_42 (dk_at dksX4_there_0 18 rfl rfl)
theorem dX4_there_19 : decode cX4_there 19 = .ok (.getfield 153, 3) := dk_180 0 153 (dk_at dksX4_there_0 19 rfl rfl)
theorem dX4_there_22 : decode cX4_there 22 = .ok (.invokevirtual 220, 3) := dk_182 0 220 (dk_at dksX4_there_1 0 rfl rfl)
theorem dX4_there_25 : decode cX4_there 25 = .ok (.ifCond .ge 11, 3) := dk_156 0 11 (dk_at dksX4_there_1 3 rfl rfl)
theorem dX4_there_28 : decode cX4_there 28 = .ok (.aload_n 0, 1) := dk_42 (dk_at dksX4_there_1 6 rfl rfl)
theorem dX4_there_29 : decode cX4_there 29 = .ok (.iconst 4, 1) := dk_7 (dk_at dksX4_there_1 7 rfl rfl)
theorem dX4_there_30 : decode cX4_there 30 = .ok (.invokevirtual 168, 3) := dk_182 0 168 (dk_at dksX4_there_1 8 rfl rfl)
theorem dX4_there_33 : decode cX4_there 33 = .ok (.ifCond .eq 7, 3) := dk_153 0 7 (dk_at dksX4_there_1 11 rfl rfl)
theorem dX4_there_36 : decode cX4_there 36 = .ok (.iconst 1, 1) := dk_4 (dk_at dksX4_there_1 14 rfl rfl)
theorem dX4_there_37 : decode cX4_there 37 = .ok (.goto 4, 3) := dk_167 0 4 (dk_at dksX4_there_1 15 rfl rfl)
theorem dX4_there_40 : decode cX4_there 40 = .ok (.iconst 0, 1) := dk_3 (dk_at dksX4_there_1 18 rfl rfl)
theorem dX4_there_41 : decode cX4_there 41 = .ok (.ireturn, 1) := dk_172 (dk_at dksX4_there_1 19 rfl rfl)
abbrev cX4_latestHour : ByteArray := prog_18_method_26_code
def yX4_latestHour : MethodName := ⟨RX4, "latestHour", "(III)I"⟩
def dkwX4_latestHour_2 : List UInt8 := [21, 4, 172]
abbrev dktX4_latestHour_2 : List UInt8 := dkwX4_latestHour_2 ++ []
def dkwX4_latestHour_1 : List UInt8 := [160, 0, 13, 42, 180, 0, 57, 21, 5, 46, 167, 0, 5, 21, 4, 54, 4, 132, 5, 1, 167, 255, 220]
abbrev dktX4_latestHour_1 : List UInt8 := dkwX4_latestHour_1 ++ dktX4_latestHour_2
def dkwX4_latestHour_0 : List UInt8 := [2, 54, 4, 27, 54, 5, 21, 5, 27, 28, 96, 162, 0, 34, 42, 180, 0, 54, 21, 5, 46, 29]
abbrev dktX4_latestHour_0 : List UInt8 := dkwX4_latestHour_0 ++ dktX4_latestHour_1
theorem dksX4_latestHour_0 : cX4_latestHour.data.toList.drop 0 = dktX4_latestHour_0 := by decide +kernel
theorem dksX4_latestHour_1 : cX4_latestHour.data.toList.drop 22 = dktX4_latestHour_1 := dk_seg dksX4_latestHour_0 22 rfl rfl
theorem dksX4_latestHour_2 : cX4_latestHour.data.toList.drop 45 = dktX4_latestHour_2 := dk_seg dksX4_latestHour_1 23 rfl rfl
theorem dX4_latestHour_0 : decode cX4_latestHour 0 = .ok (.iconst (-1), 1) := dk_2 (dk_at dksX4_latestHour_0 0 rfl rfl)
theorem dX4_latestHour_1 : decode cX4_latestHour 1 = .ok (.istore 4, 2) := dk_54 4 (dk_at dksX4_latestHour_0 1 rfl rfl)
theorem dX4_latestHour_3 : decode cX4_latestHour 3 = .ok (.iload_n 1, 1) := dk_27 (dk_at dksX4_latestHour_0 3 rfl rfl)
theorem dX4_latestHour_4 : decode cX4_latestHour 4 = .ok (.istore 5, 2) := dk_54 5 (dk_at dksX4_latestHour_0 4 rfl rfl)
theorem dX4_latestHour_6 : decode cX4_latestHour 6 = .ok (.iload 5, 2) := dk_21 5 (dk_at dksX4_latestHour_0 6 rfl rfl)
theorem dX4_latestHour_8 : decode cX4_latestHour 8 = .ok (.iload_n 1, 1) := dk_27 (dk_at dksX4_latestHour_0 8 rfl rfl)
theorem dX4_latestHour_9 : decode cX4_latestHour 9 = .ok (.iload_n 2, 1) := dk_28 (dk_at dksX4_latestHour_0 9 rfl rfl)
theorem dX4_latestHour_10 : decode cX4_latestHour 10 = .ok (.iadd, 1) := dk_96 (dk_at dksX4_latestHour_0 10 rfl rfl)
theorem dX4_latestHour_11 : decode cX4_latestHour 11 = .ok (.if_icmp .ge 34, 3) := dk_162 0 34 (dk_at dksX4_latestHour_0 11 rfl rfl)
theorem dX4_latestHour_14 : decode cX4_latestHour 14 = .ok (.aload_n 0, 1) := dk_42 (dk_at dksX4_latestHour_0 14 rfl rfl)
theorem dX4_latestHour_15 : decode cX4_latestHour 15 = .ok (.getfield 54, 3) := dk_180 0 54 (dk_at dksX4_latestHour_0 15 rfl rfl)
theorem dX4_latestHour_18 : decode cX4_latestHour 18 = .ok (.iload 5, 2) := dk_21 5 (dk_at dksX4_latestHour_0 18 rfl rfl)
theorem dX4_latestHour_20 : decode cX4_latestHour 20 = .ok (.iaload, 1) := dk_46 (dk_at dksX4_latestHour_0 20 rfl rfl)
theorem dX4_latestHour_21 : decode cX4_latestHour 21 = .ok (.iload_n 3, 1) := dk_29 (dk_at dksX4_latestHour_0 21 rfl rfl)
theorem dX4_latestHour_22 : decode cX4_latestHour 22 = .ok (.if_icmp .ne 13, 3) := dk_160 0 13 (dk_at dksX4_latestHour_1 0 rfl rfl)
theorem dX4_latestHour_25 : decode cX4_latestHour 25 = .ok (.aload_n 0, 1) := dk_42 (dk_at dksX4_latestHour_1 3 rfl rfl)
theorem dX4_latestHour_26 : decode cX4_latestHour 26 = .ok (.getfield 57, 3) := dk_180 0 57 (dk_at dksX4_latestHour_1 4 rfl rfl)
theorem dX4_latestHour_29 : decode cX4_latestHour 29 = .ok (.iload 5, 2) := dk_21 5 (dk_at dksX4_latestHour_1 7 rfl rfl)
theorem dX4_latestHour_31 : decode cX4_latestHour 31 = .ok (.iaload, 1) := dk_46 (dk_at dksX4_latestHour_1 9 rfl rfl)
theorem dX4_latestHour_32 : decode cX4_latestHour 32 = .ok (.goto 5, 3) := dk_167 0 5 (dk_at dksX4_latestHour_1 10 rfl rfl)
theorem dX4_latestHour_35 : decode cX4_latestHour 35 = .ok (.iload 4, 2) := dk_21 4 (dk_at dksX4_latestHour_1 13 rfl rfl)
theorem dX4_latestHour_37 : decode cX4_latestHour 37 = .ok (.istore 4, 2) := dk_54 4 (dk_at dksX4_latestHour_1 15 rfl rfl)
theorem dX4_latestHour_39 : decode cX4_latestHour 39 = .ok (.iinc 5 1, 3) := dk_132 5 1 (dk_at dksX4_latestHour_1 17 rfl rfl)
theorem dX4_latestHour_42 : decode cX4_latestHour 42 = .ok (.goto (-36), 3) := dk_167 255 220 (dk_at dksX4_latestHour_1 20 rfl rfl)
theorem dX4_latestHour_45 : decode cX4_latestHour 45 = .ok (.iload 4, 2) := dk_21 4 (dk_at dksX4_latestHour_2 0 rfl rfl)
theorem dX4_latestHour_47 : decode cX4_latestHour 47 = .ok (.ireturn, 1) := dk_172 (dk_at dksX4_latestHour_2 2 rfl rfl)
abbrev cX4_pageLine : ByteArray := prog_18_method_28_code
def yX4_pageLine : MethodName := ⟨RX4, "pageLine", "()Z"⟩
def dkwX4_pageLine_7 : List UInt8 := [182, 0, 171, 4, 172]
abbrev dktX4_pageLine_7 : List UInt8 := dkwX4_pageLine_7 ++ []
def dkwX4_pageLine_6 : List UInt8 := [172, 42, 180, 0, 72, 27, 42, 180, 0, 153, 79, 42, 89, 180, 0, 183, 4, 96, 181, 0, 183, 42]
abbrev dktX4_pageLine_6 : List UInt8 := dkwX4_pageLine_6 ++ dktX4_pageLine_7
def dkwX4_pageLine_5 : List UInt8 := [42, 182, 0, 171, 42, 3, 42, 180, 0, 23, 16, 8, 28, 96, 46, 4, 100, 182, 0, 228, 154, 0, 5, 3]
abbrev dktX4_pageLine_5 : List UInt8 := dkwX4_pageLine_5 ++ dktX4_pageLine_6
def dkwX4_pageLine_4 : List UInt8 := [180, 0, 20, 16, 8, 42, 180, 0, 174, 42, 180, 0, 153, 182, 0, 220, 61, 42, 180, 0, 69, 27, 28, 79]
abbrev dktX4_pageLine_4 : List UInt8 := dkwX4_pageLine_4 ++ dktX4_pageLine_5
def dkwX4_pageLine_3 : List UInt8 := [182, 0, 171, 42, 42, 180, 0, 20, 16, 8, 42, 180, 0, 174, 182, 0, 235, 154, 0, 5, 3, 172, 42, 42]
abbrev dktX4_pageLine_3 : List UInt8 := dkwX4_pageLine_3 ++ dktX4_pageLine_4
def dkwX4_pageLine_2 : List UInt8 := [180, 0, 66, 27, 42, 42, 180, 0, 35, 8, 42, 180, 0, 177, 42, 180, 0, 153, 182, 0, 220, 79, 42]
abbrev dktX4_pageLine_2 : List UInt8 := dkwX4_pageLine_2 ++ dktX4_pageLine_3
def dkwX4_pageLine_1 : List UInt8 := [8, 42, 180, 0, 177, 182, 0, 235, 154, 0, 5, 3, 172, 16, 20, 42, 180, 0, 183, 96, 60, 42]
abbrev dktX4_pageLine_1 : List UInt8 := dkwX4_pageLine_1 ++ dktX4_pageLine_2
def dkwX4_pageLine_0 : List UInt8 := [42, 180, 0, 183, 16, 20, 160, 0, 9, 42, 5, 182, 0, 168, 172, 42, 182, 0, 171, 42, 42, 180, 0, 35]
abbrev dktX4_pageLine_0 : List UInt8 := dkwX4_pageLine_0 ++ dktX4_pageLine_1
theorem dksX4_pageLine_0 : cX4_pageLine.data.toList.drop 0 = dktX4_pageLine_0 := by decide +kernel
theorem dksX4_pageLine_1 : cX4_pageLine.data.toList.drop 24 = dktX4_pageLine_1 := dk_seg dksX4_pageLine_0 24 rfl rfl
theorem dksX4_pageLine_2 : cX4_pageLine.data.toList.drop 46 = dktX4_pageLine_2 := dk_seg dksX4_pageLine_1 22 rfl rfl
theorem dksX4_pageLine_3 : cX4_pageLine.data.toList.drop 69 = dktX4_pageLine_3 := dk_seg dksX4_pageLine_2 23 rfl rfl
theorem dksX4_pageLine_4 : cX4_pageLine.data.toList.drop 93 = dktX4_pageLine_4 := dk_seg dksX4_pageLine_3 24 rfl rfl
theorem dksX4_pageLine_5 : cX4_pageLine.data.toList.drop 117 = dktX4_pageLine_5 := dk_seg dksX4_pageLine_4 24 rfl rfl
theorem dksX4_pageLine_6 : cX4_pageLine.data.toList.drop 141 = dktX4_pageLine_6 := dk_seg dksX4_pageLine_5 24 rfl rfl
theorem dksX4_pageLine_7 : cX4_pageLine.data.toList.drop 163 = dktX4_pageLine_7 := dk_seg dksX4_pageLine_6 22 rfl rfl
theorem dX4_pageLine_0 : decode cX4_pageLine 0 = .ok (.aload_n 0, 1) := dk_42 (dk_at dksX4_pageLine_0 0 rfl rfl)
theorem dX4_pageLine_1 : decode cX4_pageLine 1 = .ok (.getfield 183, 3) := dk_180 0 183 (dk_at dksX4_pageLine_0 1 rfl rfl)
theorem dX4_pageLine_4 : decode cX4_pageLine 4 = .ok (.bipush 20, 2) := dk_16 20 (dk_at dksX4_pageLine_0 4 rfl rfl)
theorem dX4_pageLine_6 : decode cX4_pageLine 6 = .ok (.if_icmp .ne 9, 3) := dk_160 0 9 (dk_at dksX4_pageLine_0 6 rfl rfl)
theorem dX4_pageLine_9 : decode cX4_pageLine 9 = .ok (.aload_n 0, 1) := dk_42 (dk_at dksX4_pageLine_0 9 rfl rfl)
theorem dX4_pageLine_10 : decode cX4_pageLine 10 = .ok (.iconst 2, 1) := dk_5 (dk_at dksX4_pageLine_0 10 rfl rfl)
theorem dX4_pageLine_11 : decode cX4_pageLine 11 = .ok (.invokevirtual 168, 3) := dk_182 0 168 (dk_at dksX4_pageLine_0 11 rfl rfl)
theorem dX4_pageLine_14 : decode cX4_pageLine 14 = .ok (.ireturn, 1) := dk_172 (dk_at dksX4_pageLine_0 14 rfl rfl)
theorem dX4_pageLine_15 : decode cX4_pageLine 15 = .ok (.aload_n 0, 1) := dk_42 (dk_at dksX4_pageLine_0 15 rfl rfl)
theorem dX4_pageLine_16 : decode cX4_pageLine 16 = .ok (.invokevirtual 171, 3) := dk_182 0 171 (dk_at dksX4_pageLine_0 16 rfl rfl)
theorem dX4_pageLine_19 : decode cX4_pageLine 19 = .ok (.aload_n 0, 1) := dk_42 (dk_at dksX4_pageLine_0 19 rfl rfl)
theorem dX4_pageLine_20 : decode cX4_pageLine 20 = .ok (.aload_n 0, 1) := dk_42 (dk_at dksX4_pageLine_0 20 rfl rfl)
theorem dX4_pageLine_21 : decode cX4_pageLine 21 = .ok (.getfield 35, 3) := dk_180 0 35 (dk_at dksX4_pageLine_0 21 rfl rfl)
theorem dX4_pageLine_24 : decode cX4_pageLine 24 = .ok (.iconst 5, 1) := dk_8 (dk_at dksX4_pageLine_1 0 rfl rfl)
theorem dX4_pageLine_25 : decode cX4_pageLine 25 = .ok (.aload_n 0, 1) := dk_42 (dk_at dksX4_pageLine_1 1 rfl rfl)
theorem dX4_pageLine_26 : decode cX4_pageLine 26 = .ok (.getfield 177, 3) := dk_180 0 177 (dk_at dksX4_pageLine_1 2 rfl rfl)
theorem dX4_pageLine_29 : decode cX4_pageLine 29 = .ok (.invokevirtual 235, 3) := dk_182 0 235 (dk_at dksX4_pageLine_1 5 rfl rfl)
theorem dX4_pageLine_32 : decode cX4_pageLine 32 = .ok (.ifCond .ne 5, 3) := dk_154 0 5 (dk_at dksX4_pageLine_1 8 rfl rfl)
theorem dX4_pageLine_35 : decode cX4_pageLine 35 = .ok (.iconst 0, 1) := dk_3 (dk_at dksX4_pageLine_1 11 rfl rfl)
theorem dX4_pageLine_36 : decode cX4_pageLine 36 = .ok (.ireturn, 1) := dk_172 (dk_at dksX4_pageLine_1 12 rfl rfl)
theorem dX4_pageLine_37 : decode cX4_pageLine 37 = .ok (.bipush 20, 2) := dk_16 20 (dk_at dksX4_pageLine_1 13 rfl rfl)
theorem dX4_pageLine_39 : decode cX4_pageLine 39 = .ok (.aload_n 0, 1) := dk_42 (dk_at dksX4_pageLine_1 15 rfl rfl)
theorem dX4_pageLine_40 : decode cX4_pageLine 40 = .ok (.getfield 183, 3) := dk_180 0 183 (dk_at dksX4_pageLine_1 16 rfl rfl)
theorem dX4_pageLine_43 : decode cX4_pageLine 43 = .ok (.iadd, 1) := dk_96 (dk_at dksX4_pageLine_1 19 rfl rfl)
theorem dX4_pageLine_44 : decode cX4_pageLine 44 = .ok (.istore_n 1, 1) := dk_60 (dk_at dksX4_pageLine_1 20 rfl rfl)
theorem dX4_pageLine_45 : decode cX4_pageLine 45 = .ok (.aload_n 0, 1) := dk_42 (dk_at dksX4_pageLine_1 21 rfl rfl)
theorem dX4_pageLine_46 : decode cX4_pageLine 46 = .ok (.getfield 66, 3) := dk_180 0 66 (dk_at dksX4_pageLine_2 0 rfl rfl)
theorem dX4_pageLine_49 : decode cX4_pageLine 49 = .ok (.iload_n 1, 1) := dk_27 (dk_at dksX4_pageLine_2 3 rfl rfl)
theorem dX4_pageLine_50 : decode cX4_pageLine 50 = .ok (.aload_n 0, 1) := dk_42 (dk_at dksX4_pageLine_2 4 rfl rfl)
theorem dX4_pageLine_51 : decode cX4_pageLine 51 = .ok (.aload_n 0, 1) := dk_42 (dk_at dksX4_pageLine_2 5 rfl rfl)
theorem dX4_pageLine_52 : decode cX4_pageLine 52 = .ok (.getfield 35, 3) := dk_180 0 35 (dk_at dksX4_pageLine_2 6 rfl rfl)
theorem dX4_pageLine_55 : decode cX4_pageLine 55 = .ok (.iconst 5, 1) := dk_8 (dk_at dksX4_pageLine_2 9 rfl rfl)
theorem dX4_pageLine_56 : decode cX4_pageLine 56 = .ok (.aload_n 0, 1) := dk_42 (dk_at dksX4_pageLine_2 10 rfl rfl)
theorem dX4_pageLine_57 : decode cX4_pageLine 57 = .ok (.getfield 177, 3) := dk_180 0 177 (dk_at dksX4_pageLine_2 11 rfl rfl)
theorem dX4_pageLine_60 : decode cX4_pageLine 60 = .ok (.aload_n 0, 1) := dk_42 (dk_at dksX4_pageLine_2 14 rfl rfl)
theorem dX4_pageLine_61 : decode cX4_pageLine 61 = .ok (.getfield 153, 3) := dk_180 0 153 (dk_at dksX4_pageLine_2 15 rfl rfl)
theorem dX4_pageLine_64 : decode cX4_pageLine 64 = .ok (.invokevirtual 220, 3) := dk_182 0 220 (dk_at dksX4_pageLine_2 18 rfl rfl)
theorem dX4_pageLine_67 : decode cX4_pageLine 67 = .ok (.iastore, 1) := dk_79 (dk_at dksX4_pageLine_2 21 rfl rfl)
theorem dX4_pageLine_68 : decode cX4_pageLine 68 = .ok (.aload_n 0, 1) := dk_42 (dk_at dksX4_pageLine_2 22 rfl rfl)
theorem dX4_pageLine_69 : decode cX4_pageLine 69 = .ok (.invokevirtual 171, 3) := dk_182 0 171 (dk_at dksX4_pageLine_3 0 rfl rfl)
theorem dX4_pageLine_72 : decode cX4_pageLine 72 = .ok (.aload_n 0, 1) := dk_42 (dk_at dksX4_pageLine_3 3 rfl rfl)
theorem dX4_pageLine_73 : decode cX4_pageLine 73 = .ok (.aload_n 0, 1) := dk_42 (dk_at dksX4_pageLine_3 4 rfl rfl)
theorem dX4_pageLine_74 : decode cX4_pageLine 74 = .ok (.getfield 20, 3) := dk_180 0 20 (dk_at dksX4_pageLine_3 5 rfl rfl)
theorem dX4_pageLine_77 : decode cX4_pageLine 77 = .ok (.bipush 8, 2) := dk_16 8 (dk_at dksX4_pageLine_3 8 rfl rfl)
theorem dX4_pageLine_79 : decode cX4_pageLine 79 = .ok (.aload_n 0, 1) := dk_42 (dk_at dksX4_pageLine_3 10 rfl rfl)
theorem dX4_pageLine_80 : decode cX4_pageLine 80 = .ok (.getfield 174, 3) := dk_180 0 174 (dk_at dksX4_pageLine_3 11 rfl rfl)
theorem dX4_pageLine_83 : decode cX4_pageLine 83 = .ok (.invokevirtual 235, 3) := dk_182 0 235 (dk_at dksX4_pageLine_3 14 rfl rfl)
theorem dX4_pageLine_86 : decode cX4_pageLine 86 = .ok (.ifCond .ne 5, 3) := dk_154 0 5 (dk_at dksX4_pageLine_3 17 rfl rfl)
theorem dX4_pageLine_89 : decode cX4_pageLine 89 = .ok (.iconst 0, 1) := dk_3 (dk_at dksX4_pageLine_3 20 rfl rfl)
theorem dX4_pageLine_90 : decode cX4_pageLine 90 = .ok (.ireturn, 1) := dk_172 (dk_at dksX4_pageLine_3 21 rfl rfl)
theorem dX4_pageLine_91 : decode cX4_pageLine 91 = .ok (.aload_n 0, 1) := dk_42 (dk_at dksX4_pageLine_3 22 rfl rfl)
theorem dX4_pageLine_92 : decode cX4_pageLine 92 = .ok (.aload_n 0, 1) := dk_42 (dk_at dksX4_pageLine_3 23 rfl rfl)
theorem dX4_pageLine_93 : decode cX4_pageLine 93 = .ok (.getfield 20, 3) := dk_180 0 20 (dk_at dksX4_pageLine_4 0 rfl rfl)
theorem dX4_pageLine_96 : decode cX4_pageLine 96 = .ok (.bipush 8, 2) := dk_16 8 (dk_at dksX4_pageLine_4 3 rfl rfl)
theorem dX4_pageLine_98 : decode cX4_pageLine 98 = .ok (.aload_n 0, 1) := dk_42 (dk_at dksX4_pageLine_4 5 rfl rfl)
theorem dX4_pageLine_99 : decode cX4_pageLine 99 = .ok (.getfield 174, 3) := dk_180 0 174 (dk_at dksX4_pageLine_4 6 rfl rfl)
theorem dX4_pageLine_102 : decode cX4_pageLine 102 = .ok (.aload_n 0, 1) := dk_42 (dk_at dksX4_pageLine_4 9 rfl rfl)
theorem dX4_pageLine_103 : decode cX4_pageLine 103 = .ok (.getfield 153, 3) := dk_180 0 153 (dk_at dksX4_pageLine_4 10 rfl rfl)
theorem dX4_pageLine_106 : decode cX4_pageLine 106 = .ok (.invokevirtual 220, 3) := dk_182 0 220 (dk_at dksX4_pageLine_4 13 rfl rfl)
theorem dX4_pageLine_109 : decode cX4_pageLine 109 = .ok (.istore_n 2, 1) := dk_61 (dk_at dksX4_pageLine_4 16 rfl rfl)
theorem dX4_pageLine_110 : decode cX4_pageLine 110 = .ok (.aload_n 0, 1) := dk_42 (dk_at dksX4_pageLine_4 17 rfl rfl)
theorem dX4_pageLine_111 : decode cX4_pageLine 111 = .ok (.getfield 69, 3) := dk_180 0 69 (dk_at dksX4_pageLine_4 18 rfl rfl)
theorem dX4_pageLine_114 : decode cX4_pageLine 114 = .ok (.iload_n 1, 1) := dk_27 (dk_at dksX4_pageLine_4 21 rfl rfl)
theorem dX4_pageLine_115 : decode cX4_pageLine 115 = .ok (.iload_n 2, 1) := dk_28 (dk_at dksX4_pageLine_4 22 rfl rfl)
theorem dX4_pageLine_116 : decode cX4_pageLine 116 = .ok (.iastore, 1) := dk_79 (dk_at dksX4_pageLine_4 23 rfl rfl)
theorem dX4_pageLine_117 : decode cX4_pageLine 117 = .ok (.aload_n 0, 1) := dk_42 (dk_at dksX4_pageLine_5 0 rfl rfl)
theorem dX4_pageLine_118 : decode cX4_pageLine 118 = .ok (.invokevirtual 171, 3) := dk_182 0 171 (dk_at dksX4_pageLine_5 1 rfl rfl)
theorem dX4_pageLine_121 : decode cX4_pageLine 121 = .ok (.aload_n 0, 1) := dk_42 (dk_at dksX4_pageLine_5 4 rfl rfl)
theorem dX4_pageLine_122 : decode cX4_pageLine 122 = .ok (.iconst 0, 1) := dk_3 (dk_at dksX4_pageLine_5 5 rfl rfl)
theorem dX4_pageLine_123 : decode cX4_pageLine 123 = .ok (.aload_n 0, 1) := dk_42 (dk_at dksX4_pageLine_5 6 rfl rfl)
theorem dX4_pageLine_124 : decode cX4_pageLine 124 = .ok (.getfield 23, 3) := dk_180 0 23 (dk_at dksX4_pageLine_5 7 rfl rfl)
theorem dX4_pageLine_127 : decode cX4_pageLine 127 = .ok (.bipush 8, 2) := dk_16 8 (dk_at dksX4_pageLine_5 10 rfl rfl)
theorem dX4_pageLine_129 : decode cX4_pageLine 129 = .ok (.iload_n 2, 1) := dk_28 (dk_at dksX4_pageLine_5 12 rfl rfl)
theorem dX4_pageLine_130 : decode cX4_pageLine 130 = .ok (.iadd, 1) := dk_96 (dk_at dksX4_pageLine_5 13 rfl rfl)
theorem dX4_pageLine_131 : decode cX4_pageLine 131 = .ok (.iaload, 1) := dk_46 (dk_at dksX4_pageLine_5 14 rfl rfl)
theorem dX4_pageLine_132 : decode cX4_pageLine 132 = .ok (.iconst 1, 1) := dk_4 (dk_at dksX4_pageLine_5 15 rfl rfl)
theorem dX4_pageLine_133 : decode cX4_pageLine 133 = .ok (.isub, 1) := dk_100 (dk_at dksX4_pageLine_5 16 rfl rfl)
theorem dX4_pageLine_134 : decode cX4_pageLine 134 = .ok (.invokevirtual 228, 3) := dk_182 0 228 (dk_at dksX4_pageLine_5 17 rfl rfl)
theorem dX4_pageLine_137 : decode cX4_pageLine 137 = .ok (.ifCond .ne 5, 3) := dk_154 0 5 (dk_at dksX4_pageLine_5 20 rfl rfl)
theorem dX4_pageLine_140 : decode cX4_pageLine 140 = .ok (.iconst 0, 1) := dk_3 (dk_at dksX4_pageLine_5 23 rfl rfl)
theorem dX4_pageLine_141 : decode cX4_pageLine 141 = .ok (.ireturn, 1) := dk_172 (dk_at dksX4_pageLine_6 0 rfl rfl)
theorem dX4_pageLine_142 : decode cX4_pageLine 142 = .ok (.aload_n 0, 1) := dk_42 (dk_at dksX4_pageLine_6 1 rfl rfl)
theorem dX4_pageLine_143 : decode cX4_pageLine 143 = .ok (.getfield 72, 3) := dk_180 0 72 (dk_at dksX4_pageLine_6 2 rfl rfl)
theorem dX4_pageLine_146 : decode cX4_pageLine 146 = .ok (.iload_n 1, 1) := dk_27 (dk_at dksX4_pageLine_6 5 rfl rfl)
theorem dX4_pageLine_147 : decode cX4_pageLine 147 = .ok (.aload_n 0, 1) := dk_42 (dk_at dksX4_pageLine_6 6 rfl rfl)
theorem dX4_pageLine_148 : decode cX4_pageLine 148 = .ok (.getfield 153, 3) := dk_180 0 153 (dk_at dksX4_pageLine_6 7 rfl rfl)
theorem dX4_pageLine_151 : decode cX4_pageLine 151 = .ok (.iastore, 1) := dk_79 (dk_at dksX4_pageLine_6 10 rfl rfl)
theorem dX4_pageLine_152 : decode cX4_pageLine 152 = .ok (.aload_n 0, 1) := dk_42 (dk_at dksX4_pageLine_6 11 rfl rfl)
theorem dX4_pageLine_153 : decode cX4_pageLine 153 = .ok (.dup, 1) := dk_89 (dk_at dksX4_pageLine_6 12 rfl rfl)
theorem dX4_pageLine_154 : decode cX4_pageLine 154 = .ok (.getfield 183, 3) := dk_180 0 183 (dk_at dksX4_pageLine_6 13 rfl rfl)
theorem dX4_pageLine_157 : decode cX4_pageLine 157 = .ok (.iconst 1, 1) := dk_4 (dk_at dksX4_pageLine_6 16 rfl rfl)
theorem dX4_pageLine_158 : decode cX4_pageLine 158 = .ok (.iadd, 1) := dk_96 (dk_at dksX4_pageLine_6 17 rfl rfl)
theorem dX4_pageLine_159 : decode cX4_pageLine 159 = .ok (.putfield 183, 3) := dk_181 0 183 (dk_at dksX4_pageLine_6 18 rfl rfl)
theorem dX4_pageLine_162 : decode cX4_pageLine 162 = .ok (.aload_n 0, 1) := dk_42 (dk_at dksX4_pageLine_6 21 rfl rfl)
theorem dX4_pageLine_163 : decode cX4_pageLine 163 = .ok (.invokevirtual 171, 3) := dk_182 0 171 (dk_at dksX4_pageLine_7 0 rfl rfl)
theorem dX4_pageLine_166 : decode cX4_pageLine 166 = .ok (.iconst 1, 1) := dk_4 (dk_at dksX4_pageLine_7 3 rfl rfl)
theorem dX4_pageLine_167 : decode cX4_pageLine 167 = .ok (.ireturn, 1) := dk_172 (dk_at dksX4_pageLine_7 4 rfl rfl)
abbrev cX4_sumLine : ByteArray := prog_18_method_37_code
def yX4_sumLine : MethodName := ⟨RX4, "sumLine", "()Z"⟩
def dkwX4_sumLine_5 : List UInt8 := [180, 0, 78, 27, 42, 180, 0, 186, 79, 4, 172]
abbrev dktX4_sumLine_5 : List UInt8 := dkwX4_sumLine_5 ++ []
def dkwX4_sumLine_4 : List UInt8 := [182, 1, 28, 153, 0, 13, 167, 255, 219, 42, 182, 1, 31, 154, 255, 212, 3, 172, 42, 4, 182, 1, 25, 42]
abbrev dktX4_sumLine_4 : List UInt8 := dkwX4_sumLine_4 ++ dktX4_sumLine_5
def dkwX4_sumLine_3 : List UInt8 := [42, 180, 1, 22, 154, 0, 10, 42, 180, 1, 7, 158, 0, 29, 42, 180, 1, 22, 153, 0, 13, 42]
abbrev dktX4_sumLine_3 : List UInt8 := dkwX4_sumLine_3 ++ dktX4_sumLine_4
def dkwX4_sumLine_2 : List UInt8 := [42, 4, 181, 1, 14, 42, 180, 0, 75, 27, 42, 180, 0, 186, 79, 42, 16, 59, 182, 1, 4, 153, 0, 17]
abbrev dktX4_sumLine_2 : List UInt8 := dkwX4_sumLine_2 ++ dktX4_sumLine_3
def dkwX4_sumLine_1 : List UInt8 := [42, 182, 0, 171, 42, 3, 181, 0, 245, 42, 3, 181, 0, 242, 42, 3, 181, 1, 7, 42, 4, 181, 1, 22]
abbrev dktX4_sumLine_1 : List UInt8 := dkwX4_sumLine_1 ++ dktX4_sumLine_2
def dkwX4_sumLine_0 : List UInt8 := [6, 42, 180, 0, 153, 96, 8, 100, 60, 42, 180, 0, 78, 27, 46, 158, 0, 9, 42, 6, 182, 0, 168, 172]
abbrev dktX4_sumLine_0 : List UInt8 := dkwX4_sumLine_0 ++ dktX4_sumLine_1
theorem dksX4_sumLine_0 : cX4_sumLine.data.toList.drop 0 = dktX4_sumLine_0 := by decide +kernel
theorem dksX4_sumLine_1 : cX4_sumLine.data.toList.drop 24 = dktX4_sumLine_1 := dk_seg dksX4_sumLine_0 24 rfl rfl
theorem dksX4_sumLine_2 : cX4_sumLine.data.toList.drop 48 = dktX4_sumLine_2 := dk_seg dksX4_sumLine_1 24 rfl rfl
theorem dksX4_sumLine_3 : cX4_sumLine.data.toList.drop 72 = dktX4_sumLine_3 := dk_seg dksX4_sumLine_2 24 rfl rfl
theorem dksX4_sumLine_4 : cX4_sumLine.data.toList.drop 94 = dktX4_sumLine_4 := dk_seg dksX4_sumLine_3 22 rfl rfl
theorem dksX4_sumLine_5 : cX4_sumLine.data.toList.drop 118 = dktX4_sumLine_5 := dk_seg dksX4_sumLine_4 24 rfl rfl
theorem dX4_sumLine_0 : decode cX4_sumLine 0 = .ok (.iconst 3, 1) := dk_6 (dk_at dksX4_sumLine_0 0 rfl rfl)
theorem dX4_sumLine_1 : decode cX4_sumLine 1 = .ok (.aload_n 0, 1) := dk_42 (dk_at dksX4_sumLine_0 1 rfl rfl)
theorem dX4_sumLine_2 : decode cX4_sumLine 2 = .ok (.getfield 153, 3) := dk_180 0 153 (dk_at dksX4_sumLine_0 2 rfl rfl)
theorem dX4_sumLine_5 : decode cX4_sumLine 5 = .ok (.iadd, 1) := dk_96 (dk_at dksX4_sumLine_0 5 rfl rfl)
theorem dX4_sumLine_6 : decode cX4_sumLine 6 = .ok (.iconst 5, 1) := dk_8 (dk_at dksX4_sumLine_0 6 rfl rfl)
theorem dX4_sumLine_7 : decode cX4_sumLine 7 = .ok (.isub, 1) := dk_100 (dk_at dksX4_sumLine_0 7 rfl rfl)
theorem dX4_sumLine_8 : decode cX4_sumLine 8 = .ok (.istore_n 1, 1) := dk_60 (dk_at dksX4_sumLine_0 8 rfl rfl)
theorem dX4_sumLine_9 : decode cX4_sumLine 9 = .ok (.aload_n 0, 1) := dk_42 (dk_at dksX4_sumLine_0 9 rfl rfl)
theorem dX4_sumLine_10 : decode cX4_sumLine 10 = .ok (.getfield 78, 3) := dk_180 0 78 (dk_at dksX4_sumLine_0 10 rfl rfl)
theorem dX4_sumLine_13 : decode cX4_sumLine 13 = .ok (.iload_n 1, 1) := dk_27 (dk_at dksX4_sumLine_0 13 rfl rfl)
theorem dX4_sumLine_14 : decode cX4_sumLine 14 = .ok (.iaload, 1) := dk_46 (dk_at dksX4_sumLine_0 14 rfl rfl)
theorem dX4_sumLine_15 : decode cX4_sumLine 15 = .ok (.ifCond .le 9, 3) := dk_158 0 9 (dk_at dksX4_sumLine_0 15 rfl rfl)
theorem dX4_sumLine_18 : decode cX4_sumLine 18 = .ok (.aload_n 0, 1) := dk_42 (dk_at dksX4_sumLine_0 18 rfl rfl)
theorem dX4_sumLine_19 : decode cX4_sumLine 19 = .ok (.iconst 3, 1) := dk_6 (dk_at dksX4_sumLine_0 19 rfl rfl)
theorem dX4_sumLine_20 : decode cX4_sumLine 20 = .ok (.invokevirtual 168, 3) := dk_182 0 168 (dk_at dksX4_sumLine_0 20 rfl rfl)
theorem dX4_sumLine_23 : decode cX4_sumLine 23 = .ok (.ireturn, 1) := dk_172 (dk_at dksX4_sumLine_0 23 rfl rfl)
theorem dX4_sumLine_24 : decode cX4_sumLine 24 = .ok (.aload_n 0, 1) := dk_42 (dk_at dksX4_sumLine_1 0 rfl rfl)
theorem dX4_sumLine_25 : decode cX4_sumLine 25 = .ok (.invokevirtual 171, 3) := dk_182 0 171 (dk_at dksX4_sumLine_1 1 rfl rfl)
theorem dX4_sumLine_28 : decode cX4_sumLine 28 = .ok (.aload_n 0, 1) := dk_42 (dk_at dksX4_sumLine_1 4 rfl rfl)
theorem dX4_sumLine_29 : decode cX4_sumLine 29 = .ok (.iconst 0, 1) := dk_3 (dk_at dksX4_sumLine_1 5 rfl rfl)
theorem dX4_sumLine_30 : decode cX4_sumLine 30 = .ok (.putfield 245, 3) := dk_181 0 245 (dk_at dksX4_sumLine_1 6 rfl rfl)
theorem dX4_sumLine_33 : decode cX4_sumLine 33 = .ok (.aload_n 0, 1) := dk_42 (dk_at dksX4_sumLine_1 9 rfl rfl)
theorem dX4_sumLine_34 : decode cX4_sumLine 34 = .ok (.iconst 0, 1) := dk_3 (dk_at dksX4_sumLine_1 10 rfl rfl)
theorem dX4_sumLine_35 : decode cX4_sumLine 35 = .ok (.putfield 242, 3) := dk_181 0 242 (dk_at dksX4_sumLine_1 11 rfl rfl)
theorem dX4_sumLine_38 : decode cX4_sumLine 38 = .ok (.aload_n 0, 1) := dk_42 (dk_at dksX4_sumLine_1 14 rfl rfl)
theorem dX4_sumLine_39 : decode cX4_sumLine 39 = .ok (.iconst 0, 1) := dk_3 (dk_at dksX4_sumLine_1 15 rfl rfl)
theorem dX4_sumLine_40 : decode cX4_sumLine 40 = .ok (.putfield 263, 3) := dk_181 1 7 (dk_at dksX4_sumLine_1 16 rfl rfl)
theorem dX4_sumLine_43 : decode cX4_sumLine 43 = .ok (.aload_n 0, 1) := dk_42 (dk_at dksX4_sumLine_1 19 rfl rfl)
theorem dX4_sumLine_44 : decode cX4_sumLine 44 = .ok (.iconst 1, 1) := dk_4 (dk_at dksX4_sumLine_1 20 rfl rfl)
theorem dX4_sumLine_45 : decode cX4_sumLine 45 = .ok (.putfield 278, 3) := dk_181 1 22 (dk_at dksX4_sumLine_1 21 rfl rfl)
theorem dX4_sumLine_48 : decode cX4_sumLine 48 = .ok (.aload_n 0, 1) := dk_42 (dk_at dksX4_sumLine_2 0 rfl rfl)
theorem dX4_sumLine_49 : decode cX4_sumLine 49 = .ok (.iconst 1, 1) := dk_4 (dk_at dksX4_sumLine_2 1 rfl rfl)
theorem dX4_sumLine_50 : decode cX4_sumLine 50 = .ok (.putfield 270, 3) := dk_181 1 14 (dk_at dksX4_sumLine_2 2 rfl rfl)
theorem dX4_sumLine_53 : decode cX4_sumLine 53 = .ok (.aload_n 0, 1) := dk_42 (dk_at dksX4_sumLine_2 5 rfl rfl)
theorem dX4_sumLine_54 : decode cX4_sumLine 54 = .ok (.getfield 75, 3) := dk_180 0 75 (dk_at dksX4_sumLine_2 6 rfl rfl)
theorem dX4_sumLine_57 : decode cX4_sumLine 57 = .ok (.iload_n 1, 1) := dk_27 (dk_at dksX4_sumLine_2 9 rfl rfl)
theorem dX4_sumLine_58 : decode cX4_sumLine 58 = .ok (.aload_n 0, 1) := dk_42 (dk_at dksX4_sumLine_2 10 rfl rfl)
theorem dX4_sumLine_59 : decode cX4_sumLine 59 = .ok (.getfield 186, 3) := dk_180 0 186 (dk_at dksX4_sumLine_2 11 rfl rfl)
theorem dX4_sumLine_62 : decode cX4_sumLine 62 = .ok (.iastore, 1) := dk_79 (dk_at dksX4_sumLine_2 14 rfl rfl)
theorem dX4_sumLine_63 : decode cX4_sumLine 63 = .ok (.aload_n 0, 1) := dk_42 (dk_at dksX4_sumLine_2 15 rfl rfl)
theorem dX4_sumLine_64 : decode cX4_sumLine 64 = .ok (.bipush 59, 2) := dk_16 59 (dk_at dksX4_sumLine_2 16 rfl rfl)
theorem dX4_sumLine_66 : decode cX4_sumLine 66 = .ok (.invokevirtual 260, 3) := dk_182 1 4 (dk_at dksX4_sumLine_2 18 rfl rfl)
theorem dX4_sumLine_69 : decode cX4_sumLine 69 = .ok (.ifCond .eq 17, 3) := dk_153 0 17 (dk_at dksX4_sumLine_2 21 rfl rfl)
theorem dX4_sumLine_72 : decode cX4_sumLine 72 = .ok (.aload_n 0, 1) := dk_42 (dk_at dksX4_sumLine_3 0 rfl rfl)
theorem dX4_sumLine_73 : decode cX4_sumLine 73 = .ok (.getfield 278, 3) := dk_180 1 22 (dk_at dksX4_sumLine_3 1 rfl rfl)
theorem dX4_sumLine_76 : decode cX4_sumLine 76 = .ok (.ifCond .ne 10, 3) := dk_154 0 10 (dk_at dksX4_sumLine_3 4 rfl rfl)
theorem dX4_sumLine_79 : decode cX4_sumLine 79 = .ok (.aload_n 0, 1) := dk_42 (dk_at dksX4_sumLine_3 7 rfl rfl)
theorem dX4_sumLine_80 : decode cX4_sumLine 80 = .ok (.getfield 263, 3) := dk_180 1 7 (dk_at dksX4_sumLine_3 8 rfl rfl)
theorem dX4_sumLine_83 : decode cX4_sumLine 83 = .ok (.ifCond .le 29, 3) := dk_158 0 29 (dk_at dksX4_sumLine_3 11 rfl rfl)
theorem dX4_sumLine_86 : decode cX4_sumLine 86 = .ok (.aload_n 0, 1) := dk_42 (dk_at dksX4_sumLine_3 14 rfl rfl)
theorem dX4_sumLine_87 : decode cX4_sumLine 87 = .ok (.getfield 278, 3) := dk_180 1 22 (dk_at dksX4_sumLine_3 15 rfl rfl)
theorem dX4_sumLine_90 : decode cX4_sumLine 90 = .ok (.ifCond .eq 13, 3) := dk_153 0 13 (dk_at dksX4_sumLine_3 18 rfl rfl)
theorem dX4_sumLine_93 : decode cX4_sumLine 93 = .ok (.aload_n 0, 1) := dk_42 (dk_at dksX4_sumLine_3 21 rfl rfl)
theorem dX4_sumLine_94 : decode cX4_sumLine 94 = .ok (.invokevirtual 284, 3) := dk_182 1 28 (dk_at dksX4_sumLine_4 0 rfl rfl)
theorem dX4_sumLine_97 : decode cX4_sumLine 97 = .ok (.ifCond .eq 13, 3) := dk_153 0 13 (dk_at dksX4_sumLine_4 3 rfl rfl)
theorem dX4_sumLine_100 : decode cX4_sumLine 100 = .ok (.goto (-37), 3) := dk_167 255 219 (dk_at dksX4_sumLine_4 6 rfl rfl)
theorem dX4_sumLine_103 : decode cX4_sumLine 103 = .ok (.aload_n 0, 1) := dk_42 (dk_at dksX4_sumLine_4 9 rfl rfl)
theorem dX4_sumLine_104 : decode cX4_sumLine 104 = .ok (.invokevirtual 287, 3) := dk_182 1 31 (dk_at dksX4_sumLine_4 10 rfl rfl)
theorem dX4_sumLine_107 : decode cX4_sumLine 107 = .ok (.ifCond .ne (-44), 3) := dk_154 255 212 (dk_at dksX4_sumLine_4 13 rfl rfl)
theorem dX4_sumLine_110 : decode cX4_sumLine 110 = .ok (.iconst 0, 1) := dk_3 (dk_at dksX4_sumLine_4 16 rfl rfl)
theorem dX4_sumLine_111 : decode cX4_sumLine 111 = .ok (.ireturn, 1) := dk_172 (dk_at dksX4_sumLine_4 17 rfl rfl)
theorem dX4_sumLine_112 : decode cX4_sumLine 112 = .ok (.aload_n 0, 1) := dk_42 (dk_at dksX4_sumLine_4 18 rfl rfl)
theorem dX4_sumLine_113 : decode cX4_sumLine 113 = .ok (.iconst 1, 1) := dk_4 (dk_at dksX4_sumLine_4 19 rfl rfl)
theorem dX4_sumLine_114 : decode cX4_sumLine 114 = .ok (.invokevirtual 281, 3) := dk_182 1 25 (dk_at dksX4_sumLine_4 20 rfl rfl)
theorem dX4_sumLine_117 : decode cX4_sumLine 117 = .ok (.aload_n 0, 1) := dk_42 (dk_at dksX4_sumLine_4 23 rfl rfl)
theorem dX4_sumLine_118 : decode cX4_sumLine 118 = .ok (.getfield 78, 3) := dk_180 0 78 (dk_at dksX4_sumLine_5 0 rfl rfl)
theorem dX4_sumLine_121 : decode cX4_sumLine 121 = .ok (.iload_n 1, 1) := dk_27 (dk_at dksX4_sumLine_5 3 rfl rfl)
theorem dX4_sumLine_122 : decode cX4_sumLine 122 = .ok (.aload_n 0, 1) := dk_42 (dk_at dksX4_sumLine_5 4 rfl rfl)
theorem dX4_sumLine_123 : decode cX4_sumLine 123 = .ok (.getfield 186, 3) := dk_180 0 186 (dk_at dksX4_sumLine_5 5 rfl rfl)
theorem dX4_sumLine_126 : decode cX4_sumLine 126 = .ok (.iastore, 1) := dk_79 (dk_at dksX4_sumLine_5 8 rfl rfl)
theorem dX4_sumLine_127 : decode cX4_sumLine 127 = .ok (.iconst 1, 1) := dk_4 (dk_at dksX4_sumLine_5 9 rfl rfl)
theorem dX4_sumLine_128 : decode cX4_sumLine 128 = .ok (.ireturn, 1) := dk_172 (dk_at dksX4_sumLine_5 10 rfl rfl)
abbrev cX4_isSign : ByteArray := prog_18_method_15_code
def yX4_isSign : MethodName := ⟨RX4, "isSign", "(I)Z"⟩
def dkwX4_isSign_0 : List UInt8 := [42, 180, 0, 142, 7, 160, 0, 15, 42, 180, 0, 153, 27, 160, 0, 7, 4, 167, 0, 4, 3, 172]
abbrev dktX4_isSign_0 : List UInt8 := dkwX4_isSign_0 ++ []
theorem dksX4_isSign_0 : cX4_isSign.data.toList.drop 0 = dktX4_isSign_0 := by decide +kernel
theorem dX4_isSign_0 : decode cX4_isSign 0 = .ok (.aload_n 0, 1) := dk_42 (dk_at dksX4_isSign_0 0 rfl rfl)
theorem dX4_isSign_1 : decode cX4_isSign 1 = .ok (.getfield 142, 3) := dk_180 0 142 (dk_at dksX4_isSign_0 1 rfl rfl)
theorem dX4_isSign_4 : decode cX4_isSign 4 = .ok (.iconst 4, 1) := dk_7 (dk_at dksX4_isSign_0 4 rfl rfl)
theorem dX4_isSign_5 : decode cX4_isSign 5 = .ok (.if_icmp .ne 15, 3) := dk_160 0 15 (dk_at dksX4_isSign_0 5 rfl rfl)
theorem dX4_isSign_8 : decode cX4_isSign 8 = .ok (.aload_n 0, 1) := dk_42 (dk_at dksX4_isSign_0 8 rfl rfl)
theorem dX4_isSign_9 : decode cX4_isSign 9 = .ok (.getfield 153, 3) := dk_180 0 153 (dk_at dksX4_isSign_0 9 rfl rfl)
theorem dX4_isSign_12 : decode cX4_isSign 12 = .ok (.iload_n 1, 1) := dk_27 (dk_at dksX4_isSign_0 12 rfl rfl)
theorem dX4_isSign_13 : decode cX4_isSign 13 = .ok (.if_icmp .ne 7, 3) := dk_160 0 7 (dk_at dksX4_isSign_0 13 rfl rfl)
theorem dX4_isSign_16 : decode cX4_isSign 16 = .ok (.iconst 1, 1) := dk_4 (dk_at dksX4_isSign_0 16 rfl rfl)
theorem dX4_isSign_17 : decode cX4_isSign 17 = .ok (.goto 4, 3) := dk_167 0 4 (dk_at dksX4_isSign_0 17 rfl rfl)
theorem dX4_isSign_20 : decode cX4_isSign 20 = .ok (.iconst 0, 1) := dk_3 (dk_at dksX4_isSign_0 20 rfl rfl)
theorem dX4_isSign_21 : decode cX4_isSign 21 = .ok (.ireturn, 1) := dk_172 (dk_at dksX4_isSign_0 21 rfl rfl)
abbrev cX4_leafRead : ByteArray := prog_18_method_35_code
def yX4_leafRead : MethodName := ⟨RX4, "leafRead", "()Z"⟩
def dkwX4_leafRead_7 : List UInt8 := [182, 1, 0, 42, 3, 181, 1, 22, 42, 182, 0, 171, 4, 172]
abbrev dktX4_leafRead_7 : List UInt8 := dkwX4_leafRead_7 ++ []
def dkwX4_leafRead_6 : List UInt8 := [167, 0, 4, 3, 27, 153, 0, 13, 42, 180, 0, 153, 16, 17, 100, 167, 0, 7, 42, 180, 0, 153, 3]
abbrev dktX4_leafRead_6 : List UInt8 := dkwX4_leafRead_6 ++ dktX4_leafRead_7
def dkwX4_leafRead_5 : List UInt8 := [182, 0, 228, 154, 0, 5, 3, 172, 42, 182, 1, 18, 154, 0, 5, 3, 172, 42, 27, 153, 0, 7, 4]
abbrev dktX4_leafRead_5 : List UInt8 := dkwX4_leafRead_5 ++ dktX4_leafRead_6
def dkwX4_leafRead_4 : List UInt8 := [42, 180, 0, 153, 16, 17, 161, 0, 7, 4, 167, 0, 4, 3, 60, 27, 154, 0, 16, 42, 3, 17, 3, 231]
abbrev dktX4_leafRead_4 : List UInt8 := dkwX4_leafRead_4 ++ dktX4_leafRead_5
def dkwX4_leafRead_3 : List UInt8 := [154, 0, 5, 3, 172, 42, 5, 182, 1, 10, 42, 182, 0, 171, 4, 172, 42, 180, 0, 142, 4, 160, 0, 16]
abbrev dktX4_leafRead_3 : List UInt8 := dkwX4_leafRead_3 ++ dktX4_leafRead_4
def dkwX4_leafRead_2 : List UInt8 := [4, 172, 42, 16, 16, 182, 0, 165, 153, 0, 30, 42, 180, 1, 14, 153, 0, 23, 42, 182, 1, 18]
abbrev dktX4_leafRead_2 : List UInt8 := dkwX4_leafRead_2 ++ dktX4_leafRead_3
def dkwX4_leafRead_1 : List UInt8 := [42, 89, 180, 1, 7, 4, 96, 181, 1, 7, 42, 3, 182, 1, 10, 42, 4, 181, 1, 14, 42, 182, 0, 171]
abbrev dktX4_leafRead_1 : List UInt8 := dkwX4_leafRead_1 ++ dktX4_leafRead_2
def dkwX4_leafRead_0 : List UInt8 := [42, 16, 40, 182, 1, 4, 153, 0, 44, 42, 180, 1, 7, 16, 8, 160, 0, 9, 42, 5, 182, 0, 168, 172]
abbrev dktX4_leafRead_0 : List UInt8 := dkwX4_leafRead_0 ++ dktX4_leafRead_1
theorem dksX4_leafRead_0 : cX4_leafRead.data.toList.drop 0 = dktX4_leafRead_0 := by decide +kernel
theorem dksX4_leafRead_1 : cX4_leafRead.data.toList.drop 24 = dktX4_leafRead_1 := dk_seg dksX4_leafRead_0 24 rfl rfl
theorem dksX4_leafRead_2 : cX4_leafRead.data.toList.drop 48 = dktX4_leafRead_2 := dk_seg dksX4_leafRead_1 24 rfl rfl
theorem dksX4_leafRead_3 : cX4_leafRead.data.toList.drop 70 = dktX4_leafRead_3 := dk_seg dksX4_leafRead_2 22 rfl rfl
theorem dksX4_leafRead_4 : cX4_leafRead.data.toList.drop 94 = dktX4_leafRead_4 := dk_seg dksX4_leafRead_3 24 rfl rfl
theorem dksX4_leafRead_5 : cX4_leafRead.data.toList.drop 118 = dktX4_leafRead_5 := dk_seg dksX4_leafRead_4 24 rfl rfl
theorem dksX4_leafRead_6 : cX4_leafRead.data.toList.drop 141 = dktX4_leafRead_6 := dk_seg dksX4_leafRead_5 23 rfl rfl
theorem dksX4_leafRead_7 : cX4_leafRead.data.toList.drop 164 = dktX4_leafRead_7 := dk_seg dksX4_leafRead_6 23 rfl rfl
theorem dX4_leafRead_0 : decode cX4_leafRead 0 = .ok (.aload_n 0, 1) := dk_42 (dk_at dksX4_leafRead_0 0 rfl rfl)
theorem dX4_leafRead_1 : decode cX4_leafRead 1 = .ok (.bipush 40, 2) := dk_16 40 (dk_at dksX4_leafRead_0 1 rfl rfl)
theorem dX4_leafRead_3 : decode cX4_leafRead 3 = .ok (.invokevirtual 260, 3) := dk_182 1 4 (dk_at dksX4_leafRead_0 3 rfl rfl)
theorem dX4_leafRead_6 : decode cX4_leafRead 6 = .ok (.ifCond .eq 44, 3) := dk_153 0 44 (dk_at dksX4_leafRead_0 6 rfl rfl)
theorem dX4_leafRead_9 : decode cX4_leafRead 9 = .ok (.aload_n 0, 1) := dk_42 (dk_at dksX4_leafRead_0 9 rfl rfl)
theorem dX4_leafRead_10 : decode cX4_leafRead 10 = .ok (.getfield 263, 3) := dk_180 1 7 (dk_at dksX4_leafRead_0 10 rfl rfl)
theorem dX4_leafRead_13 : decode cX4_leafRead 13 = .ok (.bipush 8, 2) := dk_16 8 (dk_at dksX4_leafRead_0 13 rfl rfl)
theorem dX4_leafRead_15 : decode cX4_leafRead 15 = .ok (.if_icmp .ne 9, 3) := dk_160 0 9 (dk_at dksX4_leafRead_0 15 rfl rfl)
theorem dX4_leafRead_18 : decode cX4_leafRead 18 = .ok (.aload_n 0, 1) := dk_42 (dk_at dksX4_leafRead_0 18 rfl rfl)
theorem dX4_leafRead_19 : decode cX4_leafRead 19 = .ok (.iconst 2, 1) := dk_5 (dk_at dksX4_leafRead_0 19 rfl rfl)
theorem dX4_leafRead_20 : decode cX4_leafRead 20 = .ok (.invokevirtual 168, 3) := dk_182 0 168 (dk_at dksX4_leafRead_0 20 rfl rfl)
theorem dX4_leafRead_23 : decode cX4_leafRead 23 = .ok (.ireturn, 1) := dk_172 (dk_at dksX4_leafRead_0 23 rfl rfl)
theorem dX4_leafRead_24 : decode cX4_leafRead 24 = .ok (.aload_n 0, 1) := dk_42 (dk_at dksX4_leafRead_1 0 rfl rfl)
theorem dX4_leafRead_25 : decode cX4_leafRead 25 = .ok (.dup, 1) := dk_89 (dk_at dksX4_leafRead_1 1 rfl rfl)
theorem dX4_leafRead_26 : decode cX4_leafRead 26 = .ok (.getfield 263, 3) := dk_180 1 7 (dk_at dksX4_leafRead_1 2 rfl rfl)
theorem dX4_leafRead_29 : decode cX4_leafRead 29 = .ok (.iconst 1, 1) := dk_4 (dk_at dksX4_leafRead_1 5 rfl rfl)
theorem dX4_leafRead_30 : decode cX4_leafRead 30 = .ok (.iadd, 1) := dk_96 (dk_at dksX4_leafRead_1 6 rfl rfl)
theorem dX4_leafRead_31 : decode cX4_leafRead 31 = .ok (.putfield 263, 3) := dk_181 1 7 (dk_at dksX4_leafRead_1 7 rfl rfl)
theorem dX4_leafRead_34 : decode cX4_leafRead 34 = .ok (.aload_n 0, 1) := dk_42 (dk_at dksX4_leafRead_1 10 rfl rfl)
theorem dX4_leafRead_35 : decode cX4_leafRead 35 = .ok (.iconst 0, 1) := dk_3 (dk_at dksX4_leafRead_1 11 rfl rfl)
theorem dX4_leafRead_36 : decode cX4_leafRead 36 = .ok (.invokevirtual 266, 3) := dk_182 1 10 (dk_at dksX4_leafRead_1 12 rfl rfl)
theorem dX4_leafRead_39 : decode cX4_leafRead 39 = .ok (.aload_n 0, 1) := dk_42 (dk_at dksX4_leafRead_1 15 rfl rfl)
theorem dX4_leafRead_40 : decode cX4_leafRead 40 = .ok (.iconst 1, 1) := dk_4 (dk_at dksX4_leafRead_1 16 rfl rfl)
theorem dX4_leafRead_41 : decode cX4_leafRead 41 = .ok (.putfield 270, 3) := dk_181 1 14 (dk_at dksX4_leafRead_1 17 rfl rfl)
theorem dX4_leafRead_44 : decode cX4_leafRead 44 = .ok (.aload_n 0, 1) := dk_42 (dk_at dksX4_leafRead_1 20 rfl rfl)
theorem dX4_leafRead_45 : decode cX4_leafRead 45 = .ok (.invokevirtual 171, 3) := dk_182 0 171 (dk_at dksX4_leafRead_1 21 rfl rfl)
theorem dX4_leafRead_48 : decode cX4_leafRead 48 = .ok (.iconst 1, 1) := dk_4 (dk_at dksX4_leafRead_2 0 rfl rfl)
theorem dX4_leafRead_49 : decode cX4_leafRead 49 = .ok (.ireturn, 1) := dk_172 (dk_at dksX4_leafRead_2 1 rfl rfl)
theorem dX4_leafRead_50 : decode cX4_leafRead 50 = .ok (.aload_n 0, 1) := dk_42 (dk_at dksX4_leafRead_2 2 rfl rfl)
theorem dX4_leafRead_51 : decode cX4_leafRead 51 = .ok (.bipush 16, 2) := dk_16 16 (dk_at dksX4_leafRead_2 3 rfl rfl)
theorem dX4_leafRead_53 : decode cX4_leafRead 53 = .ok (.invokevirtual 165, 3) := dk_182 0 165 (dk_at dksX4_leafRead_2 5 rfl rfl)
theorem dX4_leafRead_56 : decode cX4_leafRead 56 = .ok (.ifCond .eq 30, 3) := dk_153 0 30 (dk_at dksX4_leafRead_2 8 rfl rfl)
theorem dX4_leafRead_59 : decode cX4_leafRead 59 = .ok (.aload_n 0, 1) := dk_42 (dk_at dksX4_leafRead_2 11 rfl rfl)
theorem dX4_leafRead_60 : decode cX4_leafRead 60 = .ok (.getfield 270, 3) := dk_180 1 14 (dk_at dksX4_leafRead_2 12 rfl rfl)
theorem dX4_leafRead_63 : decode cX4_leafRead 63 = .ok (.ifCond .eq 23, 3) := dk_153 0 23 (dk_at dksX4_leafRead_2 15 rfl rfl)
theorem dX4_leafRead_66 : decode cX4_leafRead 66 = .ok (.aload_n 0, 1) := dk_42 (dk_at dksX4_leafRead_2 18 rfl rfl)
theorem dX4_leafRead_67 : decode cX4_leafRead 67 = .ok (.invokevirtual 274, 3) := dk_182 1 18 (dk_at dksX4_leafRead_2 19 rfl rfl)
theorem dX4_leafRead_70 : decode cX4_leafRead 70 = .ok (.ifCond .ne 5, 3) := dk_154 0 5 (dk_at dksX4_leafRead_3 0 rfl rfl)
theorem dX4_leafRead_73 : decode cX4_leafRead 73 = .ok (.iconst 0, 1) := dk_3 (dk_at dksX4_leafRead_3 3 rfl rfl)
theorem dX4_leafRead_74 : decode cX4_leafRead 74 = .ok (.ireturn, 1) := dk_172 (dk_at dksX4_leafRead_3 4 rfl rfl)
theorem dX4_leafRead_75 : decode cX4_leafRead 75 = .ok (.aload_n 0, 1) := dk_42 (dk_at dksX4_leafRead_3 5 rfl rfl)
theorem dX4_leafRead_76 : decode cX4_leafRead 76 = .ok (.iconst 2, 1) := dk_5 (dk_at dksX4_leafRead_3 6 rfl rfl)
theorem dX4_leafRead_77 : decode cX4_leafRead 77 = .ok (.invokevirtual 266, 3) := dk_182 1 10 (dk_at dksX4_leafRead_3 7 rfl rfl)
theorem dX4_leafRead_80 : decode cX4_leafRead 80 = .ok (.aload_n 0, 1) := dk_42 (dk_at dksX4_leafRead_3 10 rfl rfl)
theorem dX4_leafRead_81 : decode cX4_leafRead 81 = .ok (.invokevirtual 171, 3) := dk_182 0 171 (dk_at dksX4_leafRead_3 11 rfl rfl)
theorem dX4_leafRead_84 : decode cX4_leafRead 84 = .ok (.iconst 1, 1) := dk_4 (dk_at dksX4_leafRead_3 14 rfl rfl)
theorem dX4_leafRead_85 : decode cX4_leafRead 85 = .ok (.ireturn, 1) := dk_172 (dk_at dksX4_leafRead_3 15 rfl rfl)
theorem dX4_leafRead_86 : decode cX4_leafRead 86 = .ok (.aload_n 0, 1) := dk_42 (dk_at dksX4_leafRead_3 16 rfl rfl)
theorem dX4_leafRead_87 : decode cX4_leafRead 87 = .ok (.getfield 142, 3) := dk_180 0 142 (dk_at dksX4_leafRead_3 17 rfl rfl)
theorem dX4_leafRead_90 : decode cX4_leafRead 90 = .ok (.iconst 1, 1) := dk_4 (dk_at dksX4_leafRead_3 20 rfl rfl)
theorem dX4_leafRead_91 : decode cX4_leafRead 91 = .ok (.if_icmp .ne 16, 3) := dk_160 0 16 (dk_at dksX4_leafRead_3 21 rfl rfl)
theorem dX4_leafRead_94 : decode cX4_leafRead 94 = .ok (.aload_n 0, 1) := dk_42 (dk_at dksX4_leafRead_4 0 rfl rfl)
theorem dX4_leafRead_95 : decode cX4_leafRead 95 = .ok (.getfield 153, 3) := dk_180 0 153 (dk_at dksX4_leafRead_4 1 rfl rfl)
theorem dX4_leafRead_98 : decode cX4_leafRead 98 = .ok (.bipush 17, 2) := dk_16 17 (dk_at dksX4_leafRead_4 4 rfl rfl)
theorem dX4_leafRead_100 : decode cX4_leafRead 100 = .ok (.if_icmp .lt 7, 3) := dk_161 0 7 (dk_at dksX4_leafRead_4 6 rfl rfl)
theorem dX4_leafRead_103 : decode cX4_leafRead 103 = .ok (.iconst 1, 1) := dk_4 (dk_at dksX4_leafRead_4 9 rfl rfl)
theorem dX4_leafRead_104 : decode cX4_leafRead 104 = .ok (.goto 4, 3) := dk_167 0 4 (dk_at dksX4_leafRead_4 10 rfl rfl)
theorem dX4_leafRead_107 : decode cX4_leafRead 107 = .ok (.iconst 0, 1) := dk_3 (dk_at dksX4_leafRead_4 13 rfl rfl)
theorem dX4_leafRead_108 : decode cX4_leafRead 108 = .ok (.istore_n 1, 1) := dk_60 (dk_at dksX4_leafRead_4 14 rfl rfl)
theorem dX4_leafRead_109 : decode cX4_leafRead 109 = .ok (.iload_n 1, 1) := dk_27 (dk_at dksX4_leafRead_4 15 rfl rfl)
theorem dX4_leafRead_110 : decode cX4_leafRead 110 = .ok (.ifCond .ne 16, 3) := dk_154 0 16 (dk_at dksX4_leafRead_4 16 rfl rfl)
theorem dX4_leafRead_113 : decode cX4_leafRead 113 = .ok (.aload_n 0, 1) := dk_42 (dk_at dksX4_leafRead_4 19 rfl rfl)
theorem dX4_leafRead_114 : decode cX4_leafRead 114 = .ok (.iconst 0, 1) := dk_3 (dk_at dksX4_leafRead_4 20 rfl rfl)
theorem dX4_leafRead_115 : decode cX4_leafRead 115 = .ok (.sipush 999, 3) := dk_17 3 231 (dk_at dksX4_leafRead_4 21 rfl rfl)
theorem dX4_leafRead_118 : decode cX4_leafRead 118 = .ok (.invokevirtual 228, 3) := dk_182 0 228 (dk_at dksX4_leafRead_5 0 rfl rfl)
theorem dX4_leafRead_121 : decode cX4_leafRead 121 = .ok (.ifCond .ne 5, 3) := dk_154 0 5 (dk_at dksX4_leafRead_5 3 rfl rfl)
theorem dX4_leafRead_124 : decode cX4_leafRead 124 = .ok (.iconst 0, 1) := dk_3 (dk_at dksX4_leafRead_5 6 rfl rfl)
theorem dX4_leafRead_125 : decode cX4_leafRead 125 = .ok (.ireturn, 1) := dk_172 (dk_at dksX4_leafRead_5 7 rfl rfl)
theorem dX4_leafRead_126 : decode cX4_leafRead 126 = .ok (.aload_n 0, 1) := dk_42 (dk_at dksX4_leafRead_5 8 rfl rfl)
theorem dX4_leafRead_127 : decode cX4_leafRead 127 = .ok (.invokevirtual 274, 3) := dk_182 1 18 (dk_at dksX4_leafRead_5 9 rfl rfl)
theorem dX4_leafRead_130 : decode cX4_leafRead 130 = .ok (.ifCond .ne 5, 3) := dk_154 0 5 (dk_at dksX4_leafRead_5 12 rfl rfl)
theorem dX4_leafRead_133 : decode cX4_leafRead 133 = .ok (.iconst 0, 1) := dk_3 (dk_at dksX4_leafRead_5 15 rfl rfl)
theorem dX4_leafRead_134 : decode cX4_leafRead 134 = .ok (.ireturn, 1) := dk_172 (dk_at dksX4_leafRead_5 16 rfl rfl)
theorem dX4_leafRead_135 : decode cX4_leafRead 135 = .ok (.aload_n 0, 1) := dk_42 (dk_at dksX4_leafRead_5 17 rfl rfl)
theorem dX4_leafRead_136 : decode cX4_leafRead 136 = .ok (.iload_n 1, 1) := dk_27 (dk_at dksX4_leafRead_5 18 rfl rfl)
theorem dX4_leafRead_137 : decode cX4_leafRead 137 = .ok (.ifCond .eq 7, 3) := dk_153 0 7 (dk_at dksX4_leafRead_5 19 rfl rfl)
theorem dX4_leafRead_140 : decode cX4_leafRead 140 = .ok (.iconst 1, 1) := dk_4 (dk_at dksX4_leafRead_5 22 rfl rfl)
theorem dX4_leafRead_141 : decode cX4_leafRead 141 = .ok (.goto 4, 3) := dk_167 0 4 (dk_at dksX4_leafRead_6 0 rfl rfl)
theorem dX4_leafRead_144 : decode cX4_leafRead 144 = .ok (.iconst 0, 1) := dk_3 (dk_at dksX4_leafRead_6 3 rfl rfl)
theorem dX4_leafRead_145 : decode cX4_leafRead 145 = .ok (.iload_n 1, 1) := dk_27 (dk_at dksX4_leafRead_6 4 rfl rfl)
theorem dX4_leafRead_146 : decode cX4_leafRead 146 = .ok (.ifCond .eq 13, 3) := dk_153 0 13 (dk_at dksX4_leafRead_6 5 rfl rfl)
theorem dX4_leafRead_149 : decode cX4_leafRead 149 = .ok (.aload_n 0, 1) := dk_42 (dk_at dksX4_leafRead_6 8 rfl rfl)
theorem dX4_leafRead_150 : decode cX4_leafRead 150 = .ok (.getfield 153, 3) := dk_180 0 153 (dk_at dksX4_leafRead_6 9 rfl rfl)
theorem dX4_leafRead_153 : decode cX4_leafRead 153 = .ok (.bipush 17, 2) := dk_16 17 (dk_at dksX4_leafRead_6 12 rfl rfl)
theorem dX4_leafRead_155 : decode cX4_leafRead 155 = .ok (.isub, 1) := dk_100 (dk_at dksX4_leafRead_6 14 rfl rfl)
theorem dX4_leafRead_156 : decode cX4_leafRead 156 = .ok (.goto 7, 3) := dk_167 0 7 (dk_at dksX4_leafRead_6 15 rfl rfl)
theorem dX4_leafRead_159 : decode cX4_leafRead 159 = .ok (.aload_n 0, 1) := dk_42 (dk_at dksX4_leafRead_6 18 rfl rfl)
theorem dX4_leafRead_160 : decode cX4_leafRead 160 = .ok (.getfield 153, 3) := dk_180 0 153 (dk_at dksX4_leafRead_6 19 rfl rfl)
theorem dX4_leafRead_163 : decode cX4_leafRead 163 = .ok (.iconst 0, 1) := dk_3 (dk_at dksX4_leafRead_6 22 rfl rfl)
theorem dX4_leafRead_164 : decode cX4_leafRead 164 = .ok (.invokevirtual 256, 3) := dk_182 1 0 (dk_at dksX4_leafRead_7 0 rfl rfl)
theorem dX4_leafRead_167 : decode cX4_leafRead 167 = .ok (.aload_n 0, 1) := dk_42 (dk_at dksX4_leafRead_7 3 rfl rfl)
theorem dX4_leafRead_168 : decode cX4_leafRead 168 = .ok (.iconst 0, 1) := dk_3 (dk_at dksX4_leafRead_7 4 rfl rfl)
theorem dX4_leafRead_169 : decode cX4_leafRead 169 = .ok (.putfield 278, 3) := dk_181 1 22 (dk_at dksX4_leafRead_7 5 rfl rfl)
theorem dX4_leafRead_172 : decode cX4_leafRead 172 = .ok (.aload_n 0, 1) := dk_42 (dk_at dksX4_leafRead_7 8 rfl rfl)
theorem dX4_leafRead_173 : decode cX4_leafRead 173 = .ok (.invokevirtual 171, 3) := dk_182 0 171 (dk_at dksX4_leafRead_7 9 rfl rfl)
theorem dX4_leafRead_176 : decode cX4_leafRead 176 = .ok (.iconst 1, 1) := dk_4 (dk_at dksX4_leafRead_7 12 rfl rfl)
theorem dX4_leafRead_177 : decode cX4_leafRead 177 = .ok (.ireturn, 1) := dk_172 (dk_at dksX4_leafRead_7 13 rfl rfl)
abbrev cX4_waitsFor : ByteArray := prog_18_method_34_code
def yX4_waitsFor : MethodName := ⟨RX4, "waitsFor", "(I)V"⟩
def dkwX4_waitsFor_0 : List UInt8 := [42, 180, 0, 99, 42, 180, 0, 245, 27, 79, 42, 89, 180, 0, 245, 4, 96, 181, 0, 245, 177]
abbrev dktX4_waitsFor_0 : List UInt8 := dkwX4_waitsFor_0 ++ []
theorem dksX4_waitsFor_0 : cX4_waitsFor.data.toList.drop 0 = dktX4_waitsFor_0 := by decide +kernel
theorem dX4_waitsFor_0 : decode cX4_waitsFor 0 = .ok (.aload_n 0, 1) := dk_42 (dk_at dksX4_waitsFor_0 0 rfl rfl)
theorem dX4_waitsFor_1 : decode cX4_waitsFor 1 = .ok (.getfield 99, 3) := dk_180 0 99 (dk_at dksX4_waitsFor_0 1 rfl rfl)
theorem dX4_waitsFor_4 : decode cX4_waitsFor 4 = .ok (.aload_n 0, 1) := dk_42 (dk_at dksX4_waitsFor_0 4 rfl rfl)
theorem dX4_waitsFor_5 : decode cX4_waitsFor 5 = .ok (.getfield 245, 3) := dk_180 0 245 (dk_at dksX4_waitsFor_0 5 rfl rfl)
theorem dX4_waitsFor_8 : decode cX4_waitsFor 8 = .ok (.iload_n 1, 1) := dk_27 (dk_at dksX4_waitsFor_0 8 rfl rfl)
theorem dX4_waitsFor_9 : decode cX4_waitsFor 9 = .ok (.iastore, 1) := dk_79 (dk_at dksX4_waitsFor_0 9 rfl rfl)
theorem dX4_waitsFor_10 : decode cX4_waitsFor 10 = .ok (.aload_n 0, 1) := dk_42 (dk_at dksX4_waitsFor_0 10 rfl rfl)
theorem dX4_waitsFor_11 : decode cX4_waitsFor 11 = .ok (.dup, 1) := dk_89 (dk_at dksX4_waitsFor_0 11 rfl rfl)
theorem dX4_waitsFor_12 : decode cX4_waitsFor 12 = .ok (.getfield 245, 3) := dk_180 0 245 (dk_at dksX4_waitsFor_0 12 rfl rfl)
theorem dX4_waitsFor_15 : decode cX4_waitsFor 15 = .ok (.iconst 1, 1) := dk_4 (dk_at dksX4_waitsFor_0 15 rfl rfl)
theorem dX4_waitsFor_16 : decode cX4_waitsFor 16 = .ok (.iadd, 1) := dk_96 (dk_at dksX4_waitsFor_0 16 rfl rfl)
theorem dX4_waitsFor_17 : decode cX4_waitsFor 17 = .ok (.putfield 245, 3) := dk_181 0 245 (dk_at dksX4_waitsFor_0 17 rfl rfl)
theorem dX4_waitsFor_20 : decode cX4_waitsFor 20 = .ok (.return_, 1) := dk_177 (dk_at dksX4_waitsFor_0 20 rfl rfl)
abbrev cX4_isCounted : ByteArray := prog_18_method_33_code
def yX4_isCounted : MethodName := ⟨RX4, "isCounted", "()Z"⟩
def dkwX4_isCounted_1 : List UInt8 := [181, 0, 189, 4, 172]
abbrev dktX4_isCounted_1 : List UInt8 := dkwX4_isCounted_1 ++ []
def dkwX4_isCounted_0 : List UInt8 := [42, 180, 0, 189, 16, 64, 160, 0, 9, 42, 5, 182, 0, 168, 172, 42, 89, 180, 0, 189, 4, 96]
abbrev dktX4_isCounted_0 : List UInt8 := dkwX4_isCounted_0 ++ dktX4_isCounted_1
theorem dksX4_isCounted_0 : cX4_isCounted.data.toList.drop 0 = dktX4_isCounted_0 := by decide +kernel
theorem dksX4_isCounted_1 : cX4_isCounted.data.toList.drop 22 = dktX4_isCounted_1 := dk_seg dksX4_isCounted_0 22 rfl rfl
theorem dX4_isCounted_0 : decode cX4_isCounted 0 = .ok (.aload_n 0, 1) := dk_42 (dk_at dksX4_isCounted_0 0 rfl rfl)
theorem dX4_isCounted_1 : decode cX4_isCounted 1 = .ok (.getfield 189, 3) := dk_180 0 189 (dk_at dksX4_isCounted_0 1 rfl rfl)
theorem dX4_isCounted_4 : decode cX4_isCounted 4 = .ok (.bipush 64, 2) := dk_16 64 (dk_at dksX4_isCounted_0 4 rfl rfl)
theorem dX4_isCounted_6 : decode cX4_isCounted 6 = .ok (.if_icmp .ne 9, 3) := dk_160 0 9 (dk_at dksX4_isCounted_0 6 rfl rfl)
theorem dX4_isCounted_9 : decode cX4_isCounted 9 = .ok (.aload_n 0, 1) := dk_42 (dk_at dksX4_isCounted_0 9 rfl rfl)
theorem dX4_isCounted_10 : decode cX4_isCounted 10 = .ok (.iconst 2, 1) := dk_5 (dk_at dksX4_isCounted_0 10 rfl rfl)
theorem dX4_isCounted_11 : decode cX4_isCounted 11 = .ok (.invokevirtual 168, 3) := dk_182 0 168 (dk_at dksX4_isCounted_0 11 rfl rfl)
theorem dX4_isCounted_14 : decode cX4_isCounted 14 = .ok (.ireturn, 1) := dk_172 (dk_at dksX4_isCounted_0 14 rfl rfl)
theorem dX4_isCounted_15 : decode cX4_isCounted 15 = .ok (.aload_n 0, 1) := dk_42 (dk_at dksX4_isCounted_0 15 rfl rfl)
theorem dX4_isCounted_16 : decode cX4_isCounted 16 = .ok (.dup, 1) := dk_89 (dk_at dksX4_isCounted_0 16 rfl rfl)
theorem dX4_isCounted_17 : decode cX4_isCounted 17 = .ok (.getfield 189, 3) := dk_180 0 189 (dk_at dksX4_isCounted_0 17 rfl rfl)
theorem dX4_isCounted_20 : decode cX4_isCounted 20 = .ok (.iconst 1, 1) := dk_4 (dk_at dksX4_isCounted_0 20 rfl rfl)
theorem dX4_isCounted_21 : decode cX4_isCounted 21 = .ok (.iadd, 1) := dk_96 (dk_at dksX4_isCounted_0 21 rfl rfl)
theorem dX4_isCounted_22 : decode cX4_isCounted 22 = .ok (.putfield 189, 3) := dk_181 0 189 (dk_at dksX4_isCounted_1 0 rfl rfl)
theorem dX4_isCounted_25 : decode cX4_isCounted 25 = .ok (.iconst 1, 1) := dk_4 (dk_at dksX4_isCounted_1 3 rfl rfl)
theorem dX4_isCounted_26 : decode cX4_isCounted 26 = .ok (.ireturn, 1) := dk_172 (dk_at dksX4_isCounted_1 4 rfl rfl)
abbrev cX4_grown : ByteArray := prog_18_method_30_code
def yX4_grown : MethodName := ⟨RX4, "grown", "(III)V"⟩
def dkwX4_grown_3 : List UInt8 := [177]
abbrev dktX4_grown_3 : List UInt8 := dkwX4_grown_3 ++ []
def dkwX4_grown_2 : List UInt8 := [180, 0, 186, 79, 42, 89, 180, 0, 242, 4, 96, 181, 0, 242, 42, 89, 180, 0, 186, 4, 96, 181, 0, 186]
abbrev dktX4_grown_2 : List UInt8 := dkwX4_grown_2 ++ dktX4_grown_3
def dkwX4_grown_1 : List UInt8 := [28, 79, 42, 180, 0, 87, 16, 64, 42, 180, 0, 186, 96, 29, 79, 42, 180, 0, 102, 42, 180, 0, 242, 42]
abbrev dktX4_grown_1 : List UInt8 := dkwX4_grown_1 ++ dktX4_grown_2
def dkwX4_grown_0 : List UInt8 := [42, 180, 0, 81, 16, 64, 42, 180, 0, 186, 96, 27, 79, 42, 180, 0, 84, 16, 64, 42, 180, 0, 186, 96]
abbrev dktX4_grown_0 : List UInt8 := dkwX4_grown_0 ++ dktX4_grown_1
theorem dksX4_grown_0 : cX4_grown.data.toList.drop 0 = dktX4_grown_0 := by decide +kernel
theorem dksX4_grown_1 : cX4_grown.data.toList.drop 24 = dktX4_grown_1 := dk_seg dksX4_grown_0 24 rfl rfl
theorem dksX4_grown_2 : cX4_grown.data.toList.drop 48 = dktX4_grown_2 := dk_seg dksX4_grown_1 24 rfl rfl
theorem dksX4_grown_3 : cX4_grown.data.toList.drop 72 = dktX4_grown_3 := dk_seg dksX4_grown_2 24 rfl rfl
theorem dX4_grown_0 : decode cX4_grown 0 = .ok (.aload_n 0, 1) := dk_42 (dk_at dksX4_grown_0 0 rfl rfl)
theorem dX4_grown_1 : decode cX4_grown 1 = .ok (.getfield 81, 3) := dk_180 0 81 (dk_at dksX4_grown_0 1 rfl rfl)
theorem dX4_grown_4 : decode cX4_grown 4 = .ok (.bipush 64, 2) := dk_16 64 (dk_at dksX4_grown_0 4 rfl rfl)
theorem dX4_grown_6 : decode cX4_grown 6 = .ok (.aload_n 0, 1) := dk_42 (dk_at dksX4_grown_0 6 rfl rfl)
theorem dX4_grown_7 : decode cX4_grown 7 = .ok (.getfield 186, 3) := dk_180 0 186 (dk_at dksX4_grown_0 7 rfl rfl)
theorem dX4_grown_10 : decode cX4_grown 10 = .ok (.iadd, 1) := dk_96 (dk_at dksX4_grown_0 10 rfl rfl)
theorem dX4_grown_11 : decode cX4_grown 11 = .ok (.iload_n 1, 1) := dk_27 (dk_at dksX4_grown_0 11 rfl rfl)
theorem dX4_grown_12 : decode cX4_grown 12 = .ok (.iastore, 1) := dk_79 (dk_at dksX4_grown_0 12 rfl rfl)
theorem dX4_grown_13 : decode cX4_grown 13 = .ok (.aload_n 0, 1) := dk_42 (dk_at dksX4_grown_0 13 rfl rfl)
theorem dX4_grown_14 : decode cX4_grown 14 = .ok (.getfield 84, 3) := dk_180 0 84 (dk_at dksX4_grown_0 14 rfl rfl)
theorem dX4_grown_17 : decode cX4_grown 17 = .ok (.bipush 64, 2) := dk_16 64 (dk_at dksX4_grown_0 17 rfl rfl)
theorem dX4_grown_19 : decode cX4_grown 19 = .ok (.aload_n 0, 1) := dk_42 (dk_at dksX4_grown_0 19 rfl rfl)
theorem dX4_grown_20 : decode cX4_grown 20 = .ok (.getfield 186, 3) := dk_180 0 186 (dk_at dksX4_grown_0 20 rfl rfl)
theorem dX4_grown_23 : decode cX4_grown 23 = .ok (.iadd, 1) := dk_96 (dk_at dksX4_grown_0 23 rfl rfl)
theorem dX4_grown_24 : decode cX4_grown 24 = .ok (.iload_n 2, 1) := dk_28 (dk_at dksX4_grown_1 0 rfl rfl)
theorem dX4_grown_25 : decode cX4_grown 25 = .ok (.iastore, 1) := dk_79 (dk_at dksX4_grown_1 1 rfl rfl)
theorem dX4_grown_26 : decode cX4_grown 26 = .ok (.aload_n 0, 1) := dk_42 (dk_at dksX4_grown_1 2 rfl rfl)
theorem dX4_grown_27 : decode cX4_grown 27 = .ok (.getfield 87, 3) := dk_180 0 87 (dk_at dksX4_grown_1 3 rfl rfl)
theorem dX4_grown_30 : decode cX4_grown 30 = .ok (.bipush 64, 2) := dk_16 64 (dk_at dksX4_grown_1 6 rfl rfl)
theorem dX4_grown_32 : decode cX4_grown 32 = .ok (.aload_n 0, 1) := dk_42 (dk_at dksX4_grown_1 8 rfl rfl)
theorem dX4_grown_33 : decode cX4_grown 33 = .ok (.getfield 186, 3) := dk_180 0 186 (dk_at dksX4_grown_1 9 rfl rfl)
theorem dX4_grown_36 : decode cX4_grown 36 = .ok (.iadd, 1) := dk_96 (dk_at dksX4_grown_1 12 rfl rfl)
theorem dX4_grown_37 : decode cX4_grown 37 = .ok (.iload_n 3, 1) := dk_29 (dk_at dksX4_grown_1 13 rfl rfl)
theorem dX4_grown_38 : decode cX4_grown 38 = .ok (.iastore, 1) := dk_79 (dk_at dksX4_grown_1 14 rfl rfl)
theorem dX4_grown_39 : decode cX4_grown 39 = .ok (.aload_n 0, 1) := dk_42 (dk_at dksX4_grown_1 15 rfl rfl)
theorem dX4_grown_40 : decode cX4_grown 40 = .ok (.getfield 102, 3) := dk_180 0 102 (dk_at dksX4_grown_1 16 rfl rfl)
theorem dX4_grown_43 : decode cX4_grown 43 = .ok (.aload_n 0, 1) := dk_42 (dk_at dksX4_grown_1 19 rfl rfl)
theorem dX4_grown_44 : decode cX4_grown 44 = .ok (.getfield 242, 3) := dk_180 0 242 (dk_at dksX4_grown_1 20 rfl rfl)
theorem dX4_grown_47 : decode cX4_grown 47 = .ok (.aload_n 0, 1) := dk_42 (dk_at dksX4_grown_1 23 rfl rfl)
theorem dX4_grown_48 : decode cX4_grown 48 = .ok (.getfield 186, 3) := dk_180 0 186 (dk_at dksX4_grown_2 0 rfl rfl)
theorem dX4_grown_51 : decode cX4_grown 51 = .ok (.iastore, 1) := dk_79 (dk_at dksX4_grown_2 3 rfl rfl)
theorem dX4_grown_52 : decode cX4_grown 52 = .ok (.aload_n 0, 1) := dk_42 (dk_at dksX4_grown_2 4 rfl rfl)
theorem dX4_grown_53 : decode cX4_grown 53 = .ok (.dup, 1) := dk_89 (dk_at dksX4_grown_2 5 rfl rfl)
theorem dX4_grown_54 : decode cX4_grown 54 = .ok (.getfield 242, 3) := dk_180 0 242 (dk_at dksX4_grown_2 6 rfl rfl)
theorem dX4_grown_57 : decode cX4_grown 57 = .ok (.iconst 1, 1) := dk_4 (dk_at dksX4_grown_2 9 rfl rfl)
theorem dX4_grown_58 : decode cX4_grown 58 = .ok (.iadd, 1) := dk_96 (dk_at dksX4_grown_2 10 rfl rfl)
theorem dX4_grown_59 : decode cX4_grown 59 = .ok (.putfield 242, 3) := dk_181 0 242 (dk_at dksX4_grown_2 11 rfl rfl)
theorem dX4_grown_62 : decode cX4_grown 62 = .ok (.aload_n 0, 1) := dk_42 (dk_at dksX4_grown_2 14 rfl rfl)
theorem dX4_grown_63 : decode cX4_grown 63 = .ok (.dup, 1) := dk_89 (dk_at dksX4_grown_2 15 rfl rfl)
theorem dX4_grown_64 : decode cX4_grown 64 = .ok (.getfield 186, 3) := dk_180 0 186 (dk_at dksX4_grown_2 16 rfl rfl)
theorem dX4_grown_67 : decode cX4_grown 67 = .ok (.iconst 1, 1) := dk_4 (dk_at dksX4_grown_2 19 rfl rfl)
theorem dX4_grown_68 : decode cX4_grown 68 = .ok (.iadd, 1) := dk_96 (dk_at dksX4_grown_2 20 rfl rfl)
theorem dX4_grown_69 : decode cX4_grown 69 = .ok (.putfield 186, 3) := dk_181 0 186 (dk_at dksX4_grown_2 21 rfl rfl)
theorem dX4_grown_72 : decode cX4_grown 72 = .ok (.return_, 1) := dk_177 (dk_at dksX4_grown_3 0 rfl rfl)
abbrev cX4_signs : ByteArray := prog_18_method_36_code
def yX4_signs : MethodName := ⟨RX4, "signs", "()Z"⟩
def dkwX4_signs_11 : List UInt8 := [182, 0, 171, 4, 172]
abbrev dktX4_signs_11 : List UInt8 := dkwX4_signs_11 ++ []
def dkwX4_signs_10 : List UInt8 := [42, 4, 181, 1, 22, 42, 27, 184, 0, 248, 6, 162, 0, 7, 4, 167, 0, 4, 3, 181, 1, 14, 42]
abbrev dktX4_signs_10 : List UInt8 := dkwX4_signs_10 ++ dktX4_signs_11
def dkwX4_signs_9 : List UInt8 := [7, 160, 0, 9, 42, 4, 182, 0, 168, 172, 42, 182, 1, 18, 154, 0, 5, 3, 172, 42, 27, 182, 1, 10]
abbrev dktX4_signs_9 : List UInt8 := dkwX4_signs_9 ++ dktX4_signs_10
def dkwX4_signs_8 : List UInt8 := [160, 0, 34, 42, 180, 0, 245, 158, 0, 27, 42, 180, 0, 99, 42, 180, 0, 245, 4, 100, 46, 184, 0, 248]
abbrev dktX4_signs_8 : List UInt8 := dkwX4_signs_8 ++ dktX4_signs_9
def dkwX4_signs_7 : List UInt8 := [184, 0, 248, 7, 160, 0, 7, 8, 167, 0, 7, 27, 184, 0, 248, 182, 1, 25, 27, 184, 0, 248, 7]
abbrev dktX4_signs_7 : List UInt8 := dkwX4_signs_7 ++ dktX4_signs_8
def dkwX4_signs_6 : List UInt8 := [153, 0, 8, 16, 14, 167, 0, 4, 3, 60, 27, 154, 0, 9, 42, 4, 182, 0, 168, 172, 42, 27]
abbrev dktX4_signs_6 : List UInt8 := dkwX4_signs_6 ++ dktX4_signs_7
def dkwX4_signs_5 : List UInt8 := [167, 0, 32, 42, 16, 42, 182, 1, 4, 153, 0, 8, 16, 13, 167, 0, 18, 42, 16, 47, 182, 1, 4]
abbrev dktX4_signs_5 : List UInt8 := dkwX4_signs_5 ++ dktX4_signs_6
def dkwX4_signs_4 : List UInt8 := [182, 1, 4, 153, 0, 8, 16, 11, 167, 0, 46, 42, 16, 45, 182, 1, 4, 153, 0, 8, 16, 12]
abbrev dktX4_signs_4 : List UInt8 := dkwX4_signs_4 ++ dktX4_signs_5
def dkwX4_signs_3 : List UInt8 := [167, 0, 77, 42, 180, 0, 142, 8, 160, 0, 12, 8, 42, 180, 0, 153, 96, 167, 0, 60, 42, 16, 43]
abbrev dktX4_signs_3 : List UInt8 := dkwX4_signs_3 ++ dktX4_signs_4
def dkwX4_signs_2 : List UInt8 := [42, 16, 14, 182, 0, 165, 153, 0, 7, 6, 167, 0, 90, 42, 16, 15, 182, 0, 165, 153, 0, 7, 7]
abbrev dktX4_signs_2 : List UInt8 := dkwX4_signs_2 ++ dktX4_signs_3
def dkwX4_signs_1 : List UInt8 := [180, 0, 245, 4, 100, 181, 0, 245, 42, 89, 180, 1, 7, 4, 100, 181, 1, 7, 42, 182, 0, 171, 4, 172]
abbrev dktX4_signs_1 : List UInt8 := dkwX4_signs_1 ++ dktX4_signs_2
def dkwX4_signs_0 : List UInt8 := [42, 16, 41, 182, 1, 4, 153, 0, 41, 42, 180, 1, 7, 158, 0, 34, 42, 4, 182, 1, 25, 42, 89]
abbrev dktX4_signs_0 : List UInt8 := dkwX4_signs_0 ++ dktX4_signs_1
theorem dksX4_signs_0 : cX4_signs.data.toList.drop 0 = dktX4_signs_0 := by decide +kernel
theorem dksX4_signs_1 : cX4_signs.data.toList.drop 23 = dktX4_signs_1 := dk_seg dksX4_signs_0 23 rfl rfl
theorem dksX4_signs_2 : cX4_signs.data.toList.drop 47 = dktX4_signs_2 := dk_seg dksX4_signs_1 24 rfl rfl
theorem dksX4_signs_3 : cX4_signs.data.toList.drop 70 = dktX4_signs_3 := dk_seg dksX4_signs_2 23 rfl rfl
theorem dksX4_signs_4 : cX4_signs.data.toList.drop 93 = dktX4_signs_4 := dk_seg dksX4_signs_3 23 rfl rfl
theorem dksX4_signs_5 : cX4_signs.data.toList.drop 115 = dktX4_signs_5 := dk_seg dksX4_signs_4 22 rfl rfl
theorem dksX4_signs_6 : cX4_signs.data.toList.drop 138 = dktX4_signs_6 := dk_seg dksX4_signs_5 23 rfl rfl
theorem dksX4_signs_7 : cX4_signs.data.toList.drop 160 = dktX4_signs_7 := dk_seg dksX4_signs_6 22 rfl rfl
theorem dksX4_signs_8 : cX4_signs.data.toList.drop 183 = dktX4_signs_8 := dk_seg dksX4_signs_7 23 rfl rfl
theorem dksX4_signs_9 : cX4_signs.data.toList.drop 207 = dktX4_signs_9 := dk_seg dksX4_signs_8 24 rfl rfl
theorem dksX4_signs_10 : cX4_signs.data.toList.drop 231 = dktX4_signs_10 := dk_seg dksX4_signs_9 24 rfl rfl
theorem dksX4_signs_11 : cX4_signs.data.toList.drop 254 = dktX4_signs_11 := dk_seg dksX4_signs_10 23 rfl rfl
theorem dX4_signs_0 : decode cX4_signs 0 = .ok (.aload_n 0, 1) := dk_42 (dk_at dksX4_signs_0 0 rfl rfl)
theorem dX4_signs_1 : decode cX4_signs 1 = .ok (.bipush 41, 2) := dk_16 41 (dk_at dksX4_signs_0 1 rfl rfl)
theorem dX4_signs_3 : decode cX4_signs 3 = .ok (.invokevirtual 260, 3) := dk_182 1 4 (dk_at dksX4_signs_0 3 rfl rfl)
theorem dX4_signs_6 : decode cX4_signs 6 = .ok (.ifCond .eq 41, 3) := dk_153 0 41 (dk_at dksX4_signs_0 6 rfl rfl)
theorem dX4_signs_9 : decode cX4_signs 9 = .ok (.aload_n 0, 1) := dk_42 (dk_at dksX4_signs_0 9 rfl rfl)
theorem dX4_signs_10 : decode cX4_signs 10 = .ok (.getfield 263, 3) := dk_180 1 7 (dk_at dksX4_signs_0 10 rfl rfl)
theorem dX4_signs_13 : decode cX4_signs 13 = .ok (.ifCond .le 34, 3) := dk_158 0 34 (dk_at dksX4_signs_0 13 rfl rfl)
theorem dX4_signs_16 : decode cX4_signs 16 = .ok (.aload_n 0, 1) := dk_42 (dk_at dksX4_signs_0 16 rfl rfl)
theorem dX4_signs_17 : decode cX4_signs 17 = .ok (.iconst 1, 1) := dk_4 (dk_at dksX4_signs_0 17 rfl rfl)
theorem dX4_signs_18 : decode cX4_signs 18 = .ok (.invokevirtual 281, 3) := dk_182 1 25 (dk_at dksX4_signs_0 18 rfl rfl)
theorem dX4_signs_21 : decode cX4_signs 21 = .ok (.aload_n 0, 1) := dk_42 (dk_at dksX4_signs_0 21 rfl rfl)
theorem dX4_signs_22 : decode cX4_signs 22 = .ok (.dup, 1) := dk_89 (dk_at dksX4_signs_0 22 rfl rfl)
theorem dX4_signs_23 : decode cX4_signs 23 = .ok (.getfield 245, 3) := dk_180 0 245 (dk_at dksX4_signs_1 0 rfl rfl)
theorem dX4_signs_26 : decode cX4_signs 26 = .ok (.iconst 1, 1) := dk_4 (dk_at dksX4_signs_1 3 rfl rfl)
theorem dX4_signs_27 : decode cX4_signs 27 = .ok (.isub, 1) := dk_100 (dk_at dksX4_signs_1 4 rfl rfl)
theorem dX4_signs_28 : decode cX4_signs 28 = .ok (.putfield 245, 3) := dk_181 0 245 (dk_at dksX4_signs_1 5 rfl rfl)
theorem dX4_signs_31 : decode cX4_signs 31 = .ok (.aload_n 0, 1) := dk_42 (dk_at dksX4_signs_1 8 rfl rfl)
theorem dX4_signs_32 : decode cX4_signs 32 = .ok (.dup, 1) := dk_89 (dk_at dksX4_signs_1 9 rfl rfl)
theorem dX4_signs_33 : decode cX4_signs 33 = .ok (.getfield 263, 3) := dk_180 1 7 (dk_at dksX4_signs_1 10 rfl rfl)
theorem dX4_signs_36 : decode cX4_signs 36 = .ok (.iconst 1, 1) := dk_4 (dk_at dksX4_signs_1 13 rfl rfl)
theorem dX4_signs_37 : decode cX4_signs 37 = .ok (.isub, 1) := dk_100 (dk_at dksX4_signs_1 14 rfl rfl)
theorem dX4_signs_38 : decode cX4_signs 38 = .ok (.putfield 263, 3) := dk_181 1 7 (dk_at dksX4_signs_1 15 rfl rfl)
theorem dX4_signs_41 : decode cX4_signs 41 = .ok (.aload_n 0, 1) := dk_42 (dk_at dksX4_signs_1 18 rfl rfl)
theorem dX4_signs_42 : decode cX4_signs 42 = .ok (.invokevirtual 171, 3) := dk_182 0 171 (dk_at dksX4_signs_1 19 rfl rfl)
theorem dX4_signs_45 : decode cX4_signs 45 = .ok (.iconst 1, 1) := dk_4 (dk_at dksX4_signs_1 22 rfl rfl)
theorem dX4_signs_46 : decode cX4_signs 46 = .ok (.ireturn, 1) := dk_172 (dk_at dksX4_signs_1 23 rfl rfl)
theorem dX4_signs_47 : decode cX4_signs 47 = .ok (.aload_n 0, 1) := dk_42 (dk_at dksX4_signs_2 0 rfl rfl)
theorem dX4_signs_48 : decode cX4_signs 48 = .ok (.bipush 14, 2) := dk_16 14 (dk_at dksX4_signs_2 1 rfl rfl)
theorem dX4_signs_50 : decode cX4_signs 50 = .ok (.invokevirtual 165, 3) := dk_182 0 165 (dk_at dksX4_signs_2 3 rfl rfl)
theorem dX4_signs_53 : decode cX4_signs 53 = .ok (.ifCond .eq 7, 3) := dk_153 0 7 (dk_at dksX4_signs_2 6 rfl rfl)
theorem dX4_signs_56 : decode cX4_signs 56 = .ok (.iconst 3, 1) := dk_6 (dk_at dksX4_signs_2 9 rfl rfl)
theorem dX4_signs_57 : decode cX4_signs 57 = .ok (.goto 90, 3) := dk_167 0 90 (dk_at dksX4_signs_2 10 rfl rfl)
theorem dX4_signs_60 : decode cX4_signs 60 = .ok (.aload_n 0, 1) := dk_42 (dk_at dksX4_signs_2 13 rfl rfl)
theorem dX4_signs_61 : decode cX4_signs 61 = .ok (.bipush 15, 2) := dk_16 15 (dk_at dksX4_signs_2 14 rfl rfl)
theorem dX4_signs_63 : decode cX4_signs 63 = .ok (.invokevirtual 165, 3) := dk_182 0 165 (dk_at dksX4_signs_2 16 rfl rfl)
theorem dX4_signs_66 : decode cX4_signs 66 = .ok (.ifCond .eq 7, 3) := dk_153 0 7 (dk_at dksX4_signs_2 19 rfl rfl)
theorem dX4_signs_69 : decode cX4_signs 69 = .ok (.iconst 4, 1) := dk_7 (dk_at dksX4_signs_2 22 rfl rfl)
theorem dX4_signs_70 : decode cX4_signs 70 = .ok (.goto 77, 3) := dk_167 0 77 (dk_at dksX4_signs_3 0 rfl rfl)
theorem dX4_signs_73 : decode cX4_signs 73 = .ok (.aload_n 0, 1) := dk_42 (dk_at dksX4_signs_3 3 rfl rfl)
theorem dX4_signs_74 : decode cX4_signs 74 = .ok (.getfield 142, 3) := dk_180 0 142 (dk_at dksX4_signs_3 4 rfl rfl)
theorem dX4_signs_77 : decode cX4_signs 77 = .ok (.iconst 5, 1) := dk_8 (dk_at dksX4_signs_3 7 rfl rfl)
theorem dX4_signs_78 : decode cX4_signs 78 = .ok (.if_icmp .ne 12, 3) := dk_160 0 12 (dk_at dksX4_signs_3 8 rfl rfl)
theorem dX4_signs_81 : decode cX4_signs 81 = .ok (.iconst 5, 1) := dk_8 (dk_at dksX4_signs_3 11 rfl rfl)
theorem dX4_signs_82 : decode cX4_signs 82 = .ok (.aload_n 0, 1) := dk_42 (dk_at dksX4_signs_3 12 rfl rfl)
theorem dX4_signs_83 : decode cX4_signs 83 = .ok (.getfield 153, 3) := dk_180 0 153 (dk_at dksX4_signs_3 13 rfl rfl)
theorem dX4_signs_86 : decode cX4_signs 86 = .ok (.iadd, 1) := dk_96 (dk_at dksX4_signs_3 16 rfl rfl)
theorem dX4_signs_87 : decode cX4_signs 87 = .ok (.goto 60, 3) := dk_167 0 60 (dk_at dksX4_signs_3 17 rfl rfl)
theorem dX4_signs_90 : decode cX4_signs 90 = .ok (.aload_n 0, 1) := dk_42 (dk_at dksX4_signs_3 20 rfl rfl)
theorem dX4_signs_91 : decode cX4_signs 91 = .ok (.bipush 43, 2) := dk_16 43 (dk_at dksX4_signs_3 21 rfl rfl)
theorem dX4_signs_93 : decode cX4_signs 93 = .ok (.invokevirtual 260, 3) := dk_182 1 4 (dk_at dksX4_signs_4 0 rfl rfl)
theorem dX4_signs_96 : decode cX4_signs 96 = .ok (.ifCond .eq 8, 3) := dk_153 0 8 (dk_at dksX4_signs_4 3 rfl rfl)
theorem dX4_signs_99 : decode cX4_signs 99 = .ok (.bipush 11, 2) := dk_16 11 (dk_at dksX4_signs_4 6 rfl rfl)
theorem dX4_signs_101 : decode cX4_signs 101 = .ok (.goto 46, 3) := dk_167 0 46 (dk_at dksX4_signs_4 8 rfl rfl)
theorem dX4_signs_104 : decode cX4_signs 104 = .ok (.aload_n 0, 1) := dk_42 (dk_at dksX4_signs_4 11 rfl rfl)
theorem dX4_signs_105 : decode cX4_signs 105 = .ok (.bipush 45, 2) := dk_16 45 (dk_at dksX4_signs_4 12 rfl rfl)
theorem dX4_signs_107 : decode cX4_signs 107 = .ok (.invokevirtual 260, 3) := dk_182 1 4 (dk_at dksX4_signs_4 14 rfl rfl)
theorem dX4_signs_110 : decode cX4_signs 110 = .ok (.ifCond .eq 8, 3) := dk_153 0 8 (dk_at dksX4_signs_4 17 rfl rfl)
theorem dX4_signs_113 : decode cX4_signs 113 = .ok (.bipush 12, 2) := dk_16 12 (dk_at dksX4_signs_4 20 rfl rfl)
theorem dX4_signs_115 : decode cX4_signs 115 = .ok (.goto 32, 3) := dk_167 0 32 (dk_at dksX4_signs_5 0 rfl rfl)
theorem dX4_signs_118 : decode cX4_signs 118 = .ok (.aload_n 0, 1) := dk_42 (dk_at dksX4_signs_5 3 rfl rfl)
theorem dX4_signs_119 : decode cX4_signs 119 = .ok (.bipush 42, 2) := dk_16 42 (dk_at dksX4_signs_5 4 rfl rfl)
theorem dX4_signs_121 : decode cX4_signs 121 = .ok (.invokevirtual 260, 3) := dk_182 1 4 (dk_at dksX4_signs_5 6 rfl rfl)
theorem dX4_signs_124 : decode cX4_signs 124 = .ok (.ifCond .eq 8, 3) := dk_153 0 8 (dk_at dksX4_signs_5 9 rfl rfl)
theorem dX4_signs_127 : decode cX4_signs 127 = .ok (.bipush 13, 2) := dk_16 13 (dk_at dksX4_signs_5 12 rfl rfl)
theorem dX4_signs_129 : decode cX4_signs 129 = .ok (.goto 18, 3) := dk_167 0 18 (dk_at dksX4_signs_5 14 rfl rfl)
theorem dX4_signs_132 : decode cX4_signs 132 = .ok (.aload_n 0, 1) := dk_42 (dk_at dksX4_signs_5 17 rfl rfl)
theorem dX4_signs_133 : decode cX4_signs 133 = .ok (.bipush 47, 2) := dk_16 47 (dk_at dksX4_signs_5 18 rfl rfl)
theorem dX4_signs_135 : decode cX4_signs 135 = .ok (.invokevirtual 260, 3) := dk_182 1 4 (dk_at dksX4_signs_5 20 rfl rfl)
theorem dX4_signs_138 : decode cX4_signs 138 = .ok (.ifCond .eq 8, 3) := dk_153 0 8 (dk_at dksX4_signs_6 0 rfl rfl)
theorem dX4_signs_141 : decode cX4_signs 141 = .ok (.bipush 14, 2) := dk_16 14 (dk_at dksX4_signs_6 3 rfl rfl)
theorem dX4_signs_143 : decode cX4_signs 143 = .ok (.goto 4, 3) := dk_167 0 4 (dk_at dksX4_signs_6 5 rfl rfl)
theorem dX4_signs_146 : decode cX4_signs 146 = .ok (.iconst 0, 1) := dk_3 (dk_at dksX4_signs_6 8 rfl rfl)
theorem dX4_signs_147 : decode cX4_signs 147 = .ok (.istore_n 1, 1) := dk_60 (dk_at dksX4_signs_6 9 rfl rfl)
theorem dX4_signs_148 : decode cX4_signs 148 = .ok (.iload_n 1, 1) := dk_27 (dk_at dksX4_signs_6 10 rfl rfl)
theorem dX4_signs_149 : decode cX4_signs 149 = .ok (.ifCond .ne 9, 3) := dk_154 0 9 (dk_at dksX4_signs_6 11 rfl rfl)
theorem dX4_signs_152 : decode cX4_signs 152 = .ok (.aload_n 0, 1) := dk_42 (dk_at dksX4_signs_6 14 rfl rfl)
theorem dX4_signs_153 : decode cX4_signs 153 = .ok (.iconst 1, 1) := dk_4 (dk_at dksX4_signs_6 15 rfl rfl)
theorem dX4_signs_154 : decode cX4_signs 154 = .ok (.invokevirtual 168, 3) := dk_182 0 168 (dk_at dksX4_signs_6 16 rfl rfl)
theorem dX4_signs_157 : decode cX4_signs 157 = .ok (.ireturn, 1) := dk_172 (dk_at dksX4_signs_6 19 rfl rfl)
theorem dX4_signs_158 : decode cX4_signs 158 = .ok (.aload_n 0, 1) := dk_42 (dk_at dksX4_signs_6 20 rfl rfl)
theorem dX4_signs_159 : decode cX4_signs 159 = .ok (.iload_n 1, 1) := dk_27 (dk_at dksX4_signs_6 21 rfl rfl)
theorem dX4_signs_160 : decode cX4_signs 160 = .ok (.invokestatic 248, 3) := dk_184 0 248 (dk_at dksX4_signs_7 0 rfl rfl)
theorem dX4_signs_163 : decode cX4_signs 163 = .ok (.iconst 4, 1) := dk_7 (dk_at dksX4_signs_7 3 rfl rfl)
theorem dX4_signs_164 : decode cX4_signs 164 = .ok (.if_icmp .ne 7, 3) := dk_160 0 7 (dk_at dksX4_signs_7 4 rfl rfl)
theorem dX4_signs_167 : decode cX4_signs 167 = .ok (.iconst 5, 1) := dk_8 (dk_at dksX4_signs_7 7 rfl rfl)
theorem dX4_signs_168 : decode cX4_signs 168 = .ok (.goto 7, 3) := dk_167 0 7 (dk_at dksX4_signs_7 8 rfl rfl)
theorem dX4_signs_171 : decode cX4_signs 171 = .ok (.iload_n 1, 1) := dk_27 (dk_at dksX4_signs_7 11 rfl rfl)
theorem dX4_signs_172 : decode cX4_signs 172 = .ok (.invokestatic 248, 3) := dk_184 0 248 (dk_at dksX4_signs_7 12 rfl rfl)
theorem dX4_signs_175 : decode cX4_signs 175 = .ok (.invokevirtual 281, 3) := dk_182 1 25 (dk_at dksX4_signs_7 15 rfl rfl)
theorem dX4_signs_178 : decode cX4_signs 178 = .ok (.iload_n 1, 1) := dk_27 (dk_at dksX4_signs_7 18 rfl rfl)
theorem dX4_signs_179 : decode cX4_signs 179 = .ok (.invokestatic 248, 3) := dk_184 0 248 (dk_at dksX4_signs_7 19 rfl rfl)
theorem dX4_signs_182 : decode cX4_signs 182 = .ok (.iconst 4, 1) := dk_7 (dk_at dksX4_signs_7 22 rfl rfl)
theorem dX4_signs_183 : decode cX4_signs 183 = .ok (.if_icmp .ne 34, 3) := dk_160 0 34 (dk_at dksX4_signs_8 0 rfl rfl)
theorem dX4_signs_186 : decode cX4_signs 186 = .ok (.aload_n 0, 1) := dk_42 (dk_at dksX4_signs_8 3 rfl rfl)
theorem dX4_signs_187 : decode cX4_signs 187 = .ok (.getfield 245, 3) := dk_180 0 245 (dk_at dksX4_signs_8 4 rfl rfl)
theorem dX4_signs_190 : decode cX4_signs 190 = .ok (.ifCond .le 27, 3) := dk_158 0 27 (dk_at dksX4_signs_8 7 rfl rfl)
theorem dX4_signs_193 : decode cX4_signs 193 = .ok (.aload_n 0, 1) := dk_42 (dk_at dksX4_signs_8 10 rfl rfl)
theorem dX4_signs_194 : decode cX4_signs 194 = .ok (.getfield 99, 3) := dk_180 0 99 (dk_at dksX4_signs_8 11 rfl rfl)
theorem dX4_signs_197 : decode cX4_signs 197 = .ok (.aload_n 0, 1) := dk_42 (dk_at dksX4_signs_8 14 rfl rfl)
theorem dX4_signs_198 : decode cX4_signs 198 = .ok (.getfield 245, 3) := dk_180 0 245 (dk_at dksX4_signs_8 15 rfl rfl)
theorem dX4_signs_201 : decode cX4_signs 201 = .ok (.iconst 1, 1) := dk_4 (dk_at dksX4_signs_8 18 rfl rfl)
theorem dX4_signs_202 : decode cX4_signs 202 = .ok (.isub, 1) := dk_100 (dk_at dksX4_signs_8 19 rfl rfl)
theorem dX4_signs_203 : decode cX4_signs 203 = .ok (.iaload, 1) := dk_46 (dk_at dksX4_signs_8 20 rfl rfl)
theorem dX4_signs_204 : decode cX4_signs 204 = .ok (.invokestatic 248, 3) := dk_184 0 248 (dk_at dksX4_signs_8 21 rfl rfl)
theorem dX4_signs_207 : decode cX4_signs 207 = .ok (.iconst 4, 1) := dk_7 (dk_at dksX4_signs_9 0 rfl rfl)
theorem dX4_signs_208 : decode cX4_signs 208 = .ok (.if_icmp .ne 9, 3) := dk_160 0 9 (dk_at dksX4_signs_9 1 rfl rfl)
theorem dX4_signs_211 : decode cX4_signs 211 = .ok (.aload_n 0, 1) := dk_42 (dk_at dksX4_signs_9 4 rfl rfl)
theorem dX4_signs_212 : decode cX4_signs 212 = .ok (.iconst 1, 1) := dk_4 (dk_at dksX4_signs_9 5 rfl rfl)
theorem dX4_signs_213 : decode cX4_signs 213 = .ok (.invokevirtual 168, 3) := dk_182 0 168 (dk_at dksX4_signs_9 6 rfl rfl)
theorem dX4_signs_216 : decode cX4_signs 216 = .ok (.ireturn, 1) := dk_172 (dk_at dksX4_signs_9 9 rfl rfl)
theorem dX4_signs_217 : decode cX4_signs 217 = .ok (.aload_n 0, 1) := dk_42 (dk_at dksX4_signs_9 10 rfl rfl)
theorem dX4_signs_218 : decode cX4_signs 218 = .ok (.invokevirtual 274, 3) := dk_182 1 18 (dk_at dksX4_signs_9 11 rfl rfl)
theorem dX4_signs_221 : decode cX4_signs 221 = .ok (.ifCond .ne 5, 3) := dk_154 0 5 (dk_at dksX4_signs_9 14 rfl rfl)
theorem dX4_signs_224 : decode cX4_signs 224 = .ok (.iconst 0, 1) := dk_3 (dk_at dksX4_signs_9 17 rfl rfl)
theorem dX4_signs_225 : decode cX4_signs 225 = .ok (.ireturn, 1) := dk_172 (dk_at dksX4_signs_9 18 rfl rfl)
theorem dX4_signs_226 : decode cX4_signs 226 = .ok (.aload_n 0, 1) := dk_42 (dk_at dksX4_signs_9 19 rfl rfl)
theorem dX4_signs_227 : decode cX4_signs 227 = .ok (.iload_n 1, 1) := dk_27 (dk_at dksX4_signs_9 20 rfl rfl)
theorem dX4_signs_228 : decode cX4_signs 228 = .ok (.invokevirtual 266, 3) := dk_182 1 10 (dk_at dksX4_signs_9 21 rfl rfl)
theorem dX4_signs_231 : decode cX4_signs 231 = .ok (.aload_n 0, 1) := dk_42 (dk_at dksX4_signs_10 0 rfl rfl)
theorem dX4_signs_232 : decode cX4_signs 232 = .ok (.iconst 1, 1) := dk_4 (dk_at dksX4_signs_10 1 rfl rfl)
theorem dX4_signs_233 : decode cX4_signs 233 = .ok (.putfield 278, 3) := dk_181 1 22 (dk_at dksX4_signs_10 2 rfl rfl)
theorem dX4_signs_236 : decode cX4_signs 236 = .ok (.aload_n 0, 1) := dk_42 (dk_at dksX4_signs_10 5 rfl rfl)
theorem dX4_signs_237 : decode cX4_signs 237 = .ok (.iload_n 1, 1) := dk_27 (dk_at dksX4_signs_10 6 rfl rfl)
theorem dX4_signs_238 : decode cX4_signs 238 = .ok (.invokestatic 248, 3) := dk_184 0 248 (dk_at dksX4_signs_10 7 rfl rfl)
theorem dX4_signs_241 : decode cX4_signs 241 = .ok (.iconst 3, 1) := dk_6 (dk_at dksX4_signs_10 10 rfl rfl)
theorem dX4_signs_242 : decode cX4_signs 242 = .ok (.if_icmp .ge 7, 3) := dk_162 0 7 (dk_at dksX4_signs_10 11 rfl rfl)
theorem dX4_signs_245 : decode cX4_signs 245 = .ok (.iconst 1, 1) := dk_4 (dk_at dksX4_signs_10 14 rfl rfl)
theorem dX4_signs_246 : decode cX4_signs 246 = .ok (.goto 4, 3) := dk_167 0 4 (dk_at dksX4_signs_10 15 rfl rfl)
theorem dX4_signs_249 : decode cX4_signs 249 = .ok (.iconst 0, 1) := dk_3 (dk_at dksX4_signs_10 18 rfl rfl)
theorem dX4_signs_250 : decode cX4_signs 250 = .ok (.putfield 270, 3) := dk_181 1 14 (dk_at dksX4_signs_10 19 rfl rfl)
theorem dX4_signs_253 : decode cX4_signs 253 = .ok (.aload_n 0, 1) := dk_42 (dk_at dksX4_signs_10 22 rfl rfl)
theorem dX4_signs_254 : decode cX4_signs 254 = .ok (.invokevirtual 171, 3) := dk_182 0 171 (dk_at dksX4_signs_11 0 rfl rfl)
theorem dX4_signs_257 : decode cX4_signs 257 = .ok (.iconst 1, 1) := dk_4 (dk_at dksX4_signs_11 3 rfl rfl)
theorem dX4_signs_258 : decode cX4_signs 258 = .ok (.ireturn, 1) := dk_172 (dk_at dksX4_signs_11 4 rfl rfl)
abbrev cX4_bind : ByteArray := prog_18_method_32_code
def yX4_bind : MethodName := ⟨RX4, "bind", "(I)V"⟩
def dkwX4_bind_3 : List UInt8 := [182, 1, 0, 167, 255, 183, 177]
abbrev dktX4_bind_3 : List UInt8 := dkwX4_bind_3 ++ []
def dkwX4_bind_2 : List UInt8 := [5, 160, 0, 7, 2, 167, 0, 7, 42, 182, 0, 252, 62, 42, 182, 0, 252, 54, 4, 42, 28, 21, 4, 29]
abbrev dktX4_bind_2 : List UInt8 := dkwX4_bind_2 ++ dktX4_bind_3
def dkwX4_bind_1 : List UInt8 := [161, 0, 54, 42, 89, 180, 0, 245, 4, 100, 181, 0, 245, 42, 180, 0, 99, 42, 180, 0, 245, 46, 61, 28]
abbrev dktX4_bind_1 : List UInt8 := dkwX4_bind_1 ++ dktX4_bind_2
def dkwX4_bind_0 : List UInt8 := [42, 180, 0, 245, 158, 0, 72, 42, 180, 0, 99, 42, 180, 0, 245, 4, 100, 46, 184, 0, 248, 27]
abbrev dktX4_bind_0 : List UInt8 := dkwX4_bind_0 ++ dktX4_bind_1
theorem dksX4_bind_0 : cX4_bind.data.toList.drop 0 = dktX4_bind_0 := by decide +kernel
theorem dksX4_bind_1 : cX4_bind.data.toList.drop 22 = dktX4_bind_1 := dk_seg dksX4_bind_0 22 rfl rfl
theorem dksX4_bind_2 : cX4_bind.data.toList.drop 46 = dktX4_bind_2 := dk_seg dksX4_bind_1 24 rfl rfl
theorem dksX4_bind_3 : cX4_bind.data.toList.drop 70 = dktX4_bind_3 := dk_seg dksX4_bind_2 24 rfl rfl
theorem dX4_bind_0 : decode cX4_bind 0 = .ok (.aload_n 0, 1) := dk_42 (dk_at dksX4_bind_0 0 rfl rfl)
theorem dX4_bind_1 : decode cX4_bind 1 = .ok (.getfield 245, 3) := dk_180 0 245 (dk_at dksX4_bind_0 1 rfl rfl)
theorem dX4_bind_4 : decode cX4_bind 4 = .ok (.ifCond .le 72, 3) := dk_158 0 72 (dk_at dksX4_bind_0 4 rfl rfl)
theorem dX4_bind_7 : decode cX4_bind 7 = .ok (.aload_n 0, 1) := dk_42 (dk_at dksX4_bind_0 7 rfl rfl)
theorem dX4_bind_8 : decode cX4_bind 8 = .ok (.getfield 99, 3) := dk_180 0 99 (dk_at dksX4_bind_0 8 rfl rfl)
theorem dX4_bind_11 : decode cX4_bind 11 = .ok (.aload_n 0, 1) := dk_42 (dk_at dksX4_bind_0 11 rfl rfl)
theorem dX4_bind_12 : decode cX4_bind 12 = .ok (.getfield 245, 3) := dk_180 0 245 (dk_at dksX4_bind_0 12 rfl rfl)
theorem dX4_bind_15 : decode cX4_bind 15 = .ok (.iconst 1, 1) := dk_4 (dk_at dksX4_bind_0 15 rfl rfl)
theorem dX4_bind_16 : decode cX4_bind 16 = .ok (.isub, 1) := dk_100 (dk_at dksX4_bind_0 16 rfl rfl)
theorem dX4_bind_17 : decode cX4_bind 17 = .ok (.iaload, 1) := dk_46 (dk_at dksX4_bind_0 17 rfl rfl)
theorem dX4_bind_18 : decode cX4_bind 18 = .ok (.invokestatic 248, 3) := dk_184 0 248 (dk_at dksX4_bind_0 18 rfl rfl)
theorem dX4_bind_21 : decode cX4_bind 21 = .ok (.iload_n 1, 1) := dk_27 (dk_at dksX4_bind_0 21 rfl rfl)
theorem dX4_bind_22 : decode cX4_bind 22 = .ok (.if_icmp .lt 54, 3) := dk_161 0 54 (dk_at dksX4_bind_1 0 rfl rfl)
theorem dX4_bind_25 : decode cX4_bind 25 = .ok (.aload_n 0, 1) := dk_42 (dk_at dksX4_bind_1 3 rfl rfl)
theorem dX4_bind_26 : decode cX4_bind 26 = .ok (.dup, 1) := dk_89 (dk_at dksX4_bind_1 4 rfl rfl)
theorem dX4_bind_27 : decode cX4_bind 27 = .ok (.getfield 245, 3) := dk_180 0 245 (dk_at dksX4_bind_1 5 rfl rfl)
theorem dX4_bind_30 : decode cX4_bind 30 = .ok (.iconst 1, 1) := dk_4 (dk_at dksX4_bind_1 8 rfl rfl)
theorem dX4_bind_31 : decode cX4_bind 31 = .ok (.isub, 1) := dk_100 (dk_at dksX4_bind_1 9 rfl rfl)
theorem dX4_bind_32 : decode cX4_bind 32 = .ok (.putfield 245, 3) := dk_181 0 245 (dk_at dksX4_bind_1 10 rfl rfl)
theorem dX4_bind_35 : decode cX4_bind 35 = .ok (.aload_n 0, 1) := dk_42 (dk_at dksX4_bind_1 13 rfl rfl)
theorem dX4_bind_36 : decode cX4_bind 36 = .ok (.getfield 99, 3) := dk_180 0 99 (dk_at dksX4_bind_1 14 rfl rfl)
theorem dX4_bind_39 : decode cX4_bind 39 = .ok (.aload_n 0, 1) := dk_42 (dk_at dksX4_bind_1 17 rfl rfl)
theorem dX4_bind_40 : decode cX4_bind 40 = .ok (.getfield 245, 3) := dk_180 0 245 (dk_at dksX4_bind_1 18 rfl rfl)
theorem dX4_bind_43 : decode cX4_bind 43 = .ok (.iaload, 1) := dk_46 (dk_at dksX4_bind_1 21 rfl rfl)
theorem dX4_bind_44 : decode cX4_bind 44 = .ok (.istore_n 2, 1) := dk_61 (dk_at dksX4_bind_1 22 rfl rfl)
theorem dX4_bind_45 : decode cX4_bind 45 = .ok (.iload_n 2, 1) := dk_28 (dk_at dksX4_bind_1 23 rfl rfl)
theorem dX4_bind_46 : decode cX4_bind 46 = .ok (.iconst 2, 1) := dk_5 (dk_at dksX4_bind_2 0 rfl rfl)
theorem dX4_bind_47 : decode cX4_bind 47 = .ok (.if_icmp .ne 7, 3) := dk_160 0 7 (dk_at dksX4_bind_2 1 rfl rfl)
theorem dX4_bind_50 : decode cX4_bind 50 = .ok (.iconst (-1), 1) := dk_2 (dk_at dksX4_bind_2 4 rfl rfl)
theorem dX4_bind_51 : decode cX4_bind 51 = .ok (.goto 7, 3) := dk_167 0 7 (dk_at dksX4_bind_2 5 rfl rfl)
theorem dX4_bind_54 : decode cX4_bind 54 = .ok (.aload_n 0, 1) := dk_42 (dk_at dksX4_bind_2 8 rfl rfl)
theorem dX4_bind_55 : decode cX4_bind 55 = .ok (.invokevirtual 252, 3) := dk_182 0 252 (dk_at dksX4_bind_2 9 rfl rfl)
theorem dX4_bind_58 : decode cX4_bind 58 = .ok (.istore_n 3, 1) := dk_62 (dk_at dksX4_bind_2 12 rfl rfl)
theorem dX4_bind_59 : decode cX4_bind 59 = .ok (.aload_n 0, 1) := dk_42 (dk_at dksX4_bind_2 13 rfl rfl)
theorem dX4_bind_60 : decode cX4_bind 60 = .ok (.invokevirtual 252, 3) := dk_182 0 252 (dk_at dksX4_bind_2 14 rfl rfl)
theorem dX4_bind_63 : decode cX4_bind 63 = .ok (.istore 4, 2) := dk_54 4 (dk_at dksX4_bind_2 17 rfl rfl)
theorem dX4_bind_65 : decode cX4_bind 65 = .ok (.aload_n 0, 1) := dk_42 (dk_at dksX4_bind_2 19 rfl rfl)
theorem dX4_bind_66 : decode cX4_bind 66 = .ok (.iload_n 2, 1) := dk_28 (dk_at dksX4_bind_2 20 rfl rfl)
theorem dX4_bind_67 : decode cX4_bind 67 = .ok (.iload 4, 2) := dk_21 4 (dk_at dksX4_bind_2 21 rfl rfl)
theorem dX4_bind_69 : decode cX4_bind 69 = .ok (.iload_n 3, 1) := dk_29 (dk_at dksX4_bind_2 23 rfl rfl)
theorem dX4_bind_70 : decode cX4_bind 70 = .ok (.invokevirtual 256, 3) := dk_182 1 0 (dk_at dksX4_bind_3 0 rfl rfl)
theorem dX4_bind_73 : decode cX4_bind 73 = .ok (.goto (-73), 3) := dk_167 255 183 (dk_at dksX4_bind_3 3 rfl rfl)
theorem dX4_bind_76 : decode cX4_bind 76 = .ok (.return_, 1) := dk_177 (dk_at dksX4_bind_3 6 rfl rfl)
abbrev cX4_weight : ByteArray := prog_18_method_29_code
def yX4_weight : MethodName := ⟨RX4, "weight", "(I)I"⟩
def dkwX4_weight_2 : List UInt8 := [167, 0, 13, 26, 7, 160, 0, 7, 4, 167, 0, 4, 3, 172]
abbrev dktX4_weight_2 : List UInt8 := dkwX4_weight_2 ++ []
def dkwX4_weight_1 : List UInt8 := [161, 0, 7, 7, 167, 0, 31, 26, 5, 160, 0, 7, 6, 167, 0, 22, 26, 6, 160, 0, 7, 5]
abbrev dktX4_weight_1 : List UInt8 := dkwX4_weight_1 ++ dktX4_weight_2
def dkwX4_weight_0 : List UInt8 := [26, 16, 13, 161, 0, 8, 16, 6, 167, 0, 50, 26, 16, 11, 161, 0, 7, 8, 167, 0, 40, 26, 8]
abbrev dktX4_weight_0 : List UInt8 := dkwX4_weight_0 ++ dktX4_weight_1
theorem dksX4_weight_0 : cX4_weight.data.toList.drop 0 = dktX4_weight_0 := by decide +kernel
theorem dksX4_weight_1 : cX4_weight.data.toList.drop 23 = dktX4_weight_1 := dk_seg dksX4_weight_0 23 rfl rfl
theorem dksX4_weight_2 : cX4_weight.data.toList.drop 45 = dktX4_weight_2 := dk_seg dksX4_weight_1 22 rfl rfl
theorem dX4_weight_0 : decode cX4_weight 0 = .ok (.iload_n 0, 1) := dk_26 (dk_at dksX4_weight_0 0 rfl rfl)
theorem dX4_weight_1 : decode cX4_weight 1 = .ok (.bipush 13, 2) := dk_16 13 (dk_at dksX4_weight_0 1 rfl rfl)
theorem dX4_weight_3 : decode cX4_weight 3 = .ok (.if_icmp .lt 8, 3) := dk_161 0 8 (dk_at dksX4_weight_0 3 rfl rfl)
theorem dX4_weight_6 : decode cX4_weight 6 = .ok (.bipush 6, 2) := dk_16 6 (dk_at dksX4_weight_0 6 rfl rfl)
theorem dX4_weight_8 : decode cX4_weight 8 = .ok (.goto 50, 3) := dk_167 0 50 (dk_at dksX4_weight_0 8 rfl rfl)
theorem dX4_weight_11 : decode cX4_weight 11 = .ok (.iload_n 0, 1) := dk_26 (dk_at dksX4_weight_0 11 rfl rfl)
theorem dX4_weight_12 : decode cX4_weight 12 = .ok (.bipush 11, 2) := dk_16 11 (dk_at dksX4_weight_0 12 rfl rfl)
theorem dX4_weight_14 : decode cX4_weight 14 = .ok (.if_icmp .lt 7, 3) := dk_161 0 7 (dk_at dksX4_weight_0 14 rfl rfl)
theorem dX4_weight_17 : decode cX4_weight 17 = .ok (.iconst 5, 1) := dk_8 (dk_at dksX4_weight_0 17 rfl rfl)
theorem dX4_weight_18 : decode cX4_weight 18 = .ok (.goto 40, 3) := dk_167 0 40 (dk_at dksX4_weight_0 18 rfl rfl)
theorem dX4_weight_21 : decode cX4_weight 21 = .ok (.iload_n 0, 1) := dk_26 (dk_at dksX4_weight_0 21 rfl rfl)
theorem dX4_weight_22 : decode cX4_weight 22 = .ok (.iconst 5, 1) := dk_8 (dk_at dksX4_weight_0 22 rfl rfl)
theorem dX4_weight_23 : decode cX4_weight 23 = .ok (.if_icmp .lt 7, 3) := dk_161 0 7 (dk_at dksX4_weight_1 0 rfl rfl)
theorem dX4_weight_26 : decode cX4_weight 26 = .ok (.iconst 4, 1) := dk_7 (dk_at dksX4_weight_1 3 rfl rfl)
theorem dX4_weight_27 : decode cX4_weight 27 = .ok (.goto 31, 3) := dk_167 0 31 (dk_at dksX4_weight_1 4 rfl rfl)
theorem dX4_weight_30 : decode cX4_weight 30 = .ok (.iload_n 0, 1) := dk_26 (dk_at dksX4_weight_1 7 rfl rfl)
theorem dX4_weight_31 : decode cX4_weight 31 = .ok (.iconst 2, 1) := dk_5 (dk_at dksX4_weight_1 8 rfl rfl)
theorem dX4_weight_32 : decode cX4_weight 32 = .ok (.if_icmp .ne 7, 3) := dk_160 0 7 (dk_at dksX4_weight_1 9 rfl rfl)
theorem dX4_weight_35 : decode cX4_weight 35 = .ok (.iconst 3, 1) := dk_6 (dk_at dksX4_weight_1 12 rfl rfl)
theorem dX4_weight_36 : decode cX4_weight 36 = .ok (.goto 22, 3) := dk_167 0 22 (dk_at dksX4_weight_1 13 rfl rfl)
theorem dX4_weight_39 : decode cX4_weight 39 = .ok (.iload_n 0, 1) := dk_26 (dk_at dksX4_weight_1 16 rfl rfl)
theorem dX4_weight_40 : decode cX4_weight 40 = .ok (.iconst 3, 1) := dk_6 (dk_at dksX4_weight_1 17 rfl rfl)
theorem dX4_weight_41 : decode cX4_weight 41 = .ok (.if_icmp .ne 7, 3) := dk_160 0 7 (dk_at dksX4_weight_1 18 rfl rfl)
theorem dX4_weight_44 : decode cX4_weight 44 = .ok (.iconst 2, 1) := dk_5 (dk_at dksX4_weight_1 21 rfl rfl)
theorem dX4_weight_45 : decode cX4_weight 45 = .ok (.goto 13, 3) := dk_167 0 13 (dk_at dksX4_weight_2 0 rfl rfl)
theorem dX4_weight_48 : decode cX4_weight 48 = .ok (.iload_n 0, 1) := dk_26 (dk_at dksX4_weight_2 3 rfl rfl)
theorem dX4_weight_49 : decode cX4_weight 49 = .ok (.iconst 4, 1) := dk_7 (dk_at dksX4_weight_2 4 rfl rfl)
theorem dX4_weight_50 : decode cX4_weight 50 = .ok (.if_icmp .ne 7, 3) := dk_160 0 7 (dk_at dksX4_weight_2 5 rfl rfl)
theorem dX4_weight_53 : decode cX4_weight 53 = .ok (.iconst 1, 1) := dk_4 (dk_at dksX4_weight_2 8 rfl rfl)
theorem dX4_weight_54 : decode cX4_weight 54 = .ok (.goto 4, 3) := dk_167 0 4 (dk_at dksX4_weight_2 9 rfl rfl)
theorem dX4_weight_57 : decode cX4_weight 57 = .ok (.iconst 0, 1) := dk_3 (dk_at dksX4_weight_2 12 rfl rfl)
theorem dX4_weight_58 : decode cX4_weight 58 = .ok (.ireturn, 1) := dk_172 (dk_at dksX4_weight_2 13 rfl rfl)
abbrev cX4_drop : ByteArray := prog_18_method_31_code
def yX4_drop : MethodName := ⟨RX4, "drop", "()I"⟩
def dkwX4_drop_0 : List UInt8 := [42, 89, 180, 0, 242, 4, 100, 181, 0, 242, 42, 180, 0, 102, 42, 180, 0, 242, 46, 172]
abbrev dktX4_drop_0 : List UInt8 := dkwX4_drop_0 ++ []
theorem dksX4_drop_0 : cX4_drop.data.toList.drop 0 = dktX4_drop_0 := by decide +kernel
theorem dX4_drop_0 : decode cX4_drop 0 = .ok (.aload_n 0, 1) := dk_42 (dk_at dksX4_drop_0 0 rfl rfl)
theorem dX4_drop_1 : decode cX4_drop 1 = .ok (.dup, 1) := dk_89 (dk_at dksX4_drop_0 1 rfl rfl)
theorem dX4_drop_2 : decode cX4_drop 2 = .ok (.getfield 242, 3) := dk_180 0 242 (dk_at dksX4_drop_0 2 rfl rfl)
theorem dX4_drop_5 : decode cX4_drop 5 = .ok (.iconst 1, 1) := dk_4 (dk_at dksX4_drop_0 5 rfl rfl)
theorem dX4_drop_6 : decode cX4_drop 6 = .ok (.isub, 1) := dk_100 (dk_at dksX4_drop_0 6 rfl rfl)
theorem dX4_drop_7 : decode cX4_drop 7 = .ok (.putfield 242, 3) := dk_181 0 242 (dk_at dksX4_drop_0 7 rfl rfl)
theorem dX4_drop_10 : decode cX4_drop 10 = .ok (.aload_n 0, 1) := dk_42 (dk_at dksX4_drop_0 10 rfl rfl)
theorem dX4_drop_11 : decode cX4_drop 11 = .ok (.getfield 102, 3) := dk_180 0 102 (dk_at dksX4_drop_0 11 rfl rfl)
theorem dX4_drop_14 : decode cX4_drop 14 = .ok (.aload_n 0, 1) := dk_42 (dk_at dksX4_drop_0 14 rfl rfl)
theorem dX4_drop_15 : decode cX4_drop 15 = .ok (.getfield 242, 3) := dk_180 0 242 (dk_at dksX4_drop_0 15 rfl rfl)
theorem dX4_drop_18 : decode cX4_drop 18 = .ok (.iaload, 1) := dk_46 (dk_at dksX4_drop_0 18 rfl rfl)
theorem dX4_drop_19 : decode cX4_drop 19 = .ok (.ireturn, 1) := dk_172 (dk_at dksX4_drop_0 19 rfl rfl)
abbrev cX4_fault : ByteArray := prog_18_method_40_code
def yX4_fault : MethodName := ⟨RX4, "fault", "(I)I"⟩
def dkwX4_fault_1 : List UInt8 := [180, 0, 16, 167, 0, 4, 2, 172]
abbrev dktX4_fault_1 : List UInt8 := dkwX4_fault_1 ++ []
def dkwX4_fault_0 : List UInt8 := [42, 3, 181, 0, 124, 27, 154, 0, 10, 42, 180, 0, 130, 167, 0, 16, 27, 4, 160, 0, 10, 42]
abbrev dktX4_fault_0 : List UInt8 := dkwX4_fault_0 ++ dktX4_fault_1
theorem dksX4_fault_0 : cX4_fault.data.toList.drop 0 = dktX4_fault_0 := by decide +kernel
theorem dksX4_fault_1 : cX4_fault.data.toList.drop 22 = dktX4_fault_1 := dk_seg dksX4_fault_0 22 rfl rfl
theorem dX4_fault_0 : decode cX4_fault 0 = .ok (.aload_n 0, 1) := dk_42 (dk_at dksX4_fault_0 0 rfl rfl)
theorem dX4_fault_1 : decode cX4_fault 1 = .ok (.iconst 0, 1) := dk_3 (dk_at dksX4_fault_0 1 rfl rfl)
theorem dX4_fault_2 : decode cX4_fault 2 = .ok (.putfield 124, 3) := dk_181 0 124 (dk_at dksX4_fault_0 2 rfl rfl)
theorem dX4_fault_5 : decode cX4_fault 5 = .ok (.iload_n 1, 1) := dk_27 (dk_at dksX4_fault_0 5 rfl rfl)
theorem dX4_fault_6 : decode cX4_fault 6 = .ok (.ifCond .ne 10, 3) := dk_154 0 10 (dk_at dksX4_fault_0 6 rfl rfl)
theorem dX4_fault_9 : decode cX4_fault 9 = .ok (.aload_n 0, 1) := dk_42 (dk_at dksX4_fault_0 9 rfl rfl)
theorem dX4_fault_10 : decode cX4_fault 10 = .ok (.getfield 130, 3) := dk_180 0 130 (dk_at dksX4_fault_0 10 rfl rfl)
theorem dX4_fault_13 : decode cX4_fault 13 = .ok (.goto 16, 3) := dk_167 0 16 (dk_at dksX4_fault_0 13 rfl rfl)
theorem dX4_fault_16 : decode cX4_fault 16 = .ok (.iload_n 1, 1) := dk_27 (dk_at dksX4_fault_0 16 rfl rfl)
theorem dX4_fault_17 : decode cX4_fault 17 = .ok (.iconst 1, 1) := dk_4 (dk_at dksX4_fault_0 17 rfl rfl)
theorem dX4_fault_18 : decode cX4_fault 18 = .ok (.if_icmp .ne 10, 3) := dk_160 0 10 (dk_at dksX4_fault_0 18 rfl rfl)
theorem dX4_fault_21 : decode cX4_fault 21 = .ok (.aload_n 0, 1) := dk_42 (dk_at dksX4_fault_0 21 rfl rfl)
theorem dX4_fault_22 : decode cX4_fault 22 = .ok (.getfield 16, 3) := dk_180 0 16 (dk_at dksX4_fault_1 0 rfl rfl)
theorem dX4_fault_25 : decode cX4_fault 25 = .ok (.goto 4, 3) := dk_167 0 4 (dk_at dksX4_fault_1 3 rfl rfl)
theorem dX4_fault_28 : decode cX4_fault 28 = .ok (.iconst (-1), 1) := dk_2 (dk_at dksX4_fault_1 6 rfl rfl)
theorem dX4_fault_29 : decode cX4_fault 29 = .ok (.ireturn, 1) := dk_172 (dk_at dksX4_fault_1 7 rfl rfl)
abbrev cX4_named : ByteArray := prog_18_method_41_code
def yX4_named : MethodName := ⟨RX4, "named", "(II)I"⟩
def dkwX4_named_2 : List UInt8 := [167, 0, 4, 2, 172]
abbrev dktX4_named_2 : List UInt8 := dkwX4_named_2 ++ []
def dkwX4_named_1 : List UInt8 := [167, 0, 26, 27, 4, 160, 0, 20, 42, 42, 180, 0, 35, 3, 42, 180, 0, 195, 28, 182, 0, 220]
abbrev dktX4_named_1 : List UInt8 := dkwX4_named_1 ++ dktX4_named_2
def dkwX4_named_0 : List UInt8 := [42, 3, 181, 0, 124, 27, 154, 0, 20, 42, 42, 180, 0, 20, 3, 42, 180, 0, 192, 28, 182, 0, 220]
abbrev dktX4_named_0 : List UInt8 := dkwX4_named_0 ++ dktX4_named_1
theorem dksX4_named_0 : cX4_named.data.toList.drop 0 = dktX4_named_0 := by decide +kernel
theorem dksX4_named_1 : cX4_named.data.toList.drop 23 = dktX4_named_1 := dk_seg dksX4_named_0 23 rfl rfl
theorem dksX4_named_2 : cX4_named.data.toList.drop 45 = dktX4_named_2 := dk_seg dksX4_named_1 22 rfl rfl
theorem dX4_named_0 : decode cX4_named 0 = .ok (.aload_n 0, 1) := dk_42 (dk_at dksX4_named_0 0 rfl rfl)
theorem dX4_named_1 : decode cX4_named 1 = .ok (.iconst 0, 1) := dk_3 (dk_at dksX4_named_0 1 rfl rfl)
theorem dX4_named_2 : decode cX4_named 2 = .ok (.putfield 124, 3) := dk_181 0 124 (dk_at dksX4_named_0 2 rfl rfl)
theorem dX4_named_5 : decode cX4_named 5 = .ok (.iload_n 1, 1) := dk_27 (dk_at dksX4_named_0 5 rfl rfl)
theorem dX4_named_6 : decode cX4_named 6 = .ok (.ifCond .ne 20, 3) := dk_154 0 20 (dk_at dksX4_named_0 6 rfl rfl)
theorem dX4_named_9 : decode cX4_named 9 = .ok (.aload_n 0, 1) := dk_42 (dk_at dksX4_named_0 9 rfl rfl)
theorem dX4_named_10 : decode cX4_named 10 = .ok (.aload_n 0, 1) := dk_42 (dk_at dksX4_named_0 10 rfl rfl)
theorem dX4_named_11 : decode cX4_named 11 = .ok (.getfield 20, 3) := dk_180 0 20 (dk_at dksX4_named_0 11 rfl rfl)
theorem dX4_named_14 : decode cX4_named 14 = .ok (.iconst 0, 1) := dk_3 (dk_at dksX4_named_0 14 rfl rfl)
theorem dX4_named_15 : decode cX4_named 15 = .ok (.aload_n 0, 1) := dk_42 (dk_at dksX4_named_0 15 rfl rfl)
theorem dX4_named_16 : decode cX4_named 16 = .ok (.getfield 192, 3) := dk_180 0 192 (dk_at dksX4_named_0 16 rfl rfl)
theorem dX4_named_19 : decode cX4_named 19 = .ok (.iload_n 2, 1) := dk_28 (dk_at dksX4_named_0 19 rfl rfl)
theorem dX4_named_20 : decode cX4_named 20 = .ok (.invokevirtual 220, 3) := dk_182 0 220 (dk_at dksX4_named_0 20 rfl rfl)
theorem dX4_named_23 : decode cX4_named 23 = .ok (.goto 26, 3) := dk_167 0 26 (dk_at dksX4_named_1 0 rfl rfl)
theorem dX4_named_26 : decode cX4_named 26 = .ok (.iload_n 1, 1) := dk_27 (dk_at dksX4_named_1 3 rfl rfl)
theorem dX4_named_27 : decode cX4_named 27 = .ok (.iconst 1, 1) := dk_4 (dk_at dksX4_named_1 4 rfl rfl)
theorem dX4_named_28 : decode cX4_named 28 = .ok (.if_icmp .ne 20, 3) := dk_160 0 20 (dk_at dksX4_named_1 5 rfl rfl)
theorem dX4_named_31 : decode cX4_named 31 = .ok (.aload_n 0, 1) := dk_42 (dk_at dksX4_named_1 8 rfl rfl)
theorem dX4_named_32 : decode cX4_named 32 = .ok (.aload_n 0, 1) := dk_42 (dk_at dksX4_named_1 9 rfl rfl)
theorem dX4_named_33 : decode cX4_named 33 = .ok (.getfield 35, 3) := dk_180 0 35 (dk_at dksX4_named_1 10 rfl rfl)
theorem dX4_named_36 : decode cX4_named 36 = .ok (.iconst 0, 1) := dk_3 (dk_at dksX4_named_1 13 rfl rfl)
theorem dX4_named_37 : decode cX4_named 37 = .ok (.aload_n 0, 1) := dk_42 (dk_at dksX4_named_1 14 rfl rfl)
theorem dX4_named_38 : decode cX4_named 38 = .ok (.getfield 195, 3) := dk_180 0 195 (dk_at dksX4_named_1 15 rfl rfl)
theorem dX4_named_41 : decode cX4_named 41 = .ok (.iload_n 2, 1) := dk_28 (dk_at dksX4_named_1 18 rfl rfl)
theorem dX4_named_42 : decode cX4_named 42 = .ok (.invokevirtual 220, 3) := dk_182 0 220 (dk_at dksX4_named_1 19 rfl rfl)
theorem dX4_named_45 : decode cX4_named 45 = .ok (.goto 4, 3) := dk_167 0 4 (dk_at dksX4_named_2 0 rfl rfl)
theorem dX4_named_48 : decode cX4_named 48 = .ok (.iconst (-1), 1) := dk_2 (dk_at dksX4_named_2 3 rfl rfl)
theorem dX4_named_49 : decode cX4_named 49 = .ok (.ireturn, 1) := dk_172 (dk_at dksX4_named_2 4 rfl rfl)
abbrev cX4_look : ByteArray := prog_18_method_45_code
def yX4_look : MethodName := ⟨RX4, "look", "(II)I"⟩
def dkwX4_look_3 : List UInt8 := [180, 0, 32, 27, 46, 172, 42, 5, 182, 1, 56, 172]
abbrev dktX4_look_3 : List UInt8 := dkwX4_look_3 ++ []
def dkwX4_look_2 : List UInt8 := [42, 180, 0, 23, 27, 46, 172, 42, 180, 0, 26, 27, 46, 172, 42, 180, 0, 29, 27, 46, 172, 42]
abbrev dktX4_look_2 : List UInt8 := dkwX4_look_2 ++ dktX4_look_3
def dkwX4_look_1 : List UInt8 := [170, 0, 0, 0, 0, 0, 0, 60, 0, 0, 0, 0, 0, 0, 0, 3, 0, 0, 0, 32, 0, 0, 0, 39, 0, 0, 0, 46, 0, 0, 0, 53]
abbrev dktX4_look_1 : List UInt8 := dkwX4_look_1 ++ dktX4_look_2
def dkwX4_look_0 : List UInt8 := [42, 3, 181, 0, 124, 42, 27, 182, 1, 53, 154, 0, 9, 42, 4, 182, 1, 56, 172, 28]
abbrev dktX4_look_0 : List UInt8 := dkwX4_look_0 ++ dktX4_look_1
theorem dksX4_look_0 : cX4_look.data.toList.drop 0 = dktX4_look_0 := by decide +kernel
theorem dksX4_look_1 : cX4_look.data.toList.drop 20 = dktX4_look_1 := dk_seg dksX4_look_0 20 rfl rfl
theorem dksX4_look_2 : cX4_look.data.toList.drop 52 = dktX4_look_2 := dk_seg dksX4_look_1 32 rfl rfl
theorem dksX4_look_3 : cX4_look.data.toList.drop 74 = dktX4_look_3 := dk_seg dksX4_look_2 22 rfl rfl
theorem dX4_look_0 : decode cX4_look 0 = .ok (.aload_n 0, 1) := dk_42 (dk_at dksX4_look_0 0 rfl rfl)
theorem dX4_look_1 : decode cX4_look 1 = .ok (.iconst 0, 1) := dk_3 (dk_at dksX4_look_0 1 rfl rfl)
theorem dX4_look_2 : decode cX4_look 2 = .ok (.putfield 124, 3) := dk_181 0 124 (dk_at dksX4_look_0 2 rfl rfl)
theorem dX4_look_5 : decode cX4_look 5 = .ok (.aload_n 0, 1) := dk_42 (dk_at dksX4_look_0 5 rfl rfl)
theorem dX4_look_6 : decode cX4_look 6 = .ok (.iload_n 1, 1) := dk_27 (dk_at dksX4_look_0 6 rfl rfl)
theorem dX4_look_7 : decode cX4_look 7 = .ok (.invokevirtual 309, 3) := dk_182 1 53 (dk_at dksX4_look_0 7 rfl rfl)
theorem dX4_look_10 : decode cX4_look 10 = .ok (.ifCond .ne 9, 3) := dk_154 0 9 (dk_at dksX4_look_0 10 rfl rfl)
theorem dX4_look_13 : decode cX4_look 13 = .ok (.aload_n 0, 1) := dk_42 (dk_at dksX4_look_0 13 rfl rfl)
theorem dX4_look_14 : decode cX4_look 14 = .ok (.iconst 1, 1) := dk_4 (dk_at dksX4_look_0 14 rfl rfl)
theorem dX4_look_15 : decode cX4_look 15 = .ok (.invokevirtual 312, 3) := dk_182 1 56 (dk_at dksX4_look_0 15 rfl rfl)
theorem dX4_look_18 : decode cX4_look 18 = .ok (.ireturn, 1) := dk_172 (dk_at dksX4_look_0 18 rfl rfl)
theorem dX4_look_19 : decode cX4_look 19 = .ok (.iload_n 2, 1) := dk_28 (dk_at dksX4_look_0 19 rfl rfl)
theorem dX4_look_20 : decode cX4_look 20 = .ok (.tableswitch 60 0 3 #[32, 39, 46, 53], 32) := by decide +kernel
theorem dX4_look_52 : decode cX4_look 52 = .ok (.aload_n 0, 1) := dk_42 (dk_at dksX4_look_2 0 rfl rfl)
theorem dX4_look_53 : decode cX4_look 53 = .ok (.getfield 23, 3) := dk_180 0 23 (dk_at dksX4_look_2 1 rfl rfl)
theorem dX4_look_56 : decode cX4_look 56 = .ok (.iload_n 1, 1) := dk_27 (dk_at dksX4_look_2 4 rfl rfl)
theorem dX4_look_57 : decode cX4_look 57 = .ok (.iaload, 1) := dk_46 (dk_at dksX4_look_2 5 rfl rfl)
theorem dX4_look_58 : decode cX4_look 58 = .ok (.ireturn, 1) := dk_172 (dk_at dksX4_look_2 6 rfl rfl)
theorem dX4_look_59 : decode cX4_look 59 = .ok (.aload_n 0, 1) := dk_42 (dk_at dksX4_look_2 7 rfl rfl)
theorem dX4_look_60 : decode cX4_look 60 = .ok (.getfield 26, 3) := dk_180 0 26 (dk_at dksX4_look_2 8 rfl rfl)
theorem dX4_look_63 : decode cX4_look 63 = .ok (.iload_n 1, 1) := dk_27 (dk_at dksX4_look_2 11 rfl rfl)
theorem dX4_look_64 : decode cX4_look 64 = .ok (.iaload, 1) := dk_46 (dk_at dksX4_look_2 12 rfl rfl)
theorem dX4_look_65 : decode cX4_look 65 = .ok (.ireturn, 1) := dk_172 (dk_at dksX4_look_2 13 rfl rfl)
theorem dX4_look_66 : decode cX4_look 66 = .ok (.aload_n 0, 1) := dk_42 (dk_at dksX4_look_2 14 rfl rfl)
theorem dX4_look_67 : decode cX4_look 67 = .ok (.getfield 29, 3) := dk_180 0 29 (dk_at dksX4_look_2 15 rfl rfl)
theorem dX4_look_70 : decode cX4_look 70 = .ok (.iload_n 1, 1) := dk_27 (dk_at dksX4_look_2 18 rfl rfl)
theorem dX4_look_71 : decode cX4_look 71 = .ok (.iaload, 1) := dk_46 (dk_at dksX4_look_2 19 rfl rfl)
theorem dX4_look_72 : decode cX4_look 72 = .ok (.ireturn, 1) := dk_172 (dk_at dksX4_look_2 20 rfl rfl)
theorem dX4_look_73 : decode cX4_look 73 = .ok (.aload_n 0, 1) := dk_42 (dk_at dksX4_look_2 21 rfl rfl)
theorem dX4_look_74 : decode cX4_look 74 = .ok (.getfield 32, 3) := dk_180 0 32 (dk_at dksX4_look_3 0 rfl rfl)
theorem dX4_look_77 : decode cX4_look 77 = .ok (.iload_n 1, 1) := dk_27 (dk_at dksX4_look_3 3 rfl rfl)
theorem dX4_look_78 : decode cX4_look 78 = .ok (.iaload, 1) := dk_46 (dk_at dksX4_look_3 4 rfl rfl)
theorem dX4_look_79 : decode cX4_look 79 = .ok (.ireturn, 1) := dk_172 (dk_at dksX4_look_3 5 rfl rfl)
theorem dX4_look_80 : decode cX4_look 80 = .ok (.aload_n 0, 1) := dk_42 (dk_at dksX4_look_3 6 rfl rfl)
theorem dX4_look_81 : decode cX4_look 81 = .ok (.iconst 2, 1) := dk_5 (dk_at dksX4_look_3 7 rfl rfl)
theorem dX4_look_82 : decode cX4_look 82 = .ok (.invokevirtual 312, 3) := dk_182 1 56 (dk_at dksX4_look_3 8 rfl rfl)
theorem dX4_look_85 : decode cX4_look 85 = .ok (.ireturn, 1) := dk_172 (dk_at dksX4_look_3 11 rfl rfl)
abbrev cX4_isThing : ByteArray := prog_18_method_42_code
def yX4_isThing : MethodName := ⟨RX4, "isThing", "(I)Z"⟩
def dkwX4_isThing_0 : List UInt8 := [27, 155, 0, 15, 27, 42, 180, 0, 192, 162, 0, 7, 4, 167, 0, 4, 3, 172]
abbrev dktX4_isThing_0 : List UInt8 := dkwX4_isThing_0 ++ []
theorem dksX4_isThing_0 : cX4_isThing.data.toList.drop 0 = dktX4_isThing_0 := by decide +kernel
theorem dX4_isThing_0 : decode cX4_isThing 0 = .ok (.iload_n 1, 1) := dk_27 (dk_at dksX4_isThing_0 0 rfl rfl)
theorem dX4_isThing_1 : decode cX4_isThing 1 = .ok (.ifCond .lt 15, 3) := dk_155 0 15 (dk_at dksX4_isThing_0 1 rfl rfl)
theorem dX4_isThing_4 : decode cX4_isThing 4 = .ok (.iload_n 1, 1) := dk_27 (dk_at dksX4_isThing_0 4 rfl rfl)
theorem dX4_isThing_5 : decode cX4_isThing 5 = .ok (.aload_n 0, 1) := dk_42 (dk_at dksX4_isThing_0 5 rfl rfl)
theorem dX4_isThing_6 : decode cX4_isThing 6 = .ok (.getfield 192, 3) := dk_180 0 192 (dk_at dksX4_isThing_0 6 rfl rfl)
theorem dX4_isThing_9 : decode cX4_isThing 9 = .ok (.if_icmp .ge 7, 3) := dk_162 0 7 (dk_at dksX4_isThing_0 9 rfl rfl)
theorem dX4_isThing_12 : decode cX4_isThing 12 = .ok (.iconst 1, 1) := dk_4 (dk_at dksX4_isThing_0 12 rfl rfl)
theorem dX4_isThing_13 : decode cX4_isThing 13 = .ok (.goto 4, 3) := dk_167 0 4 (dk_at dksX4_isThing_0 13 rfl rfl)
theorem dX4_isThing_16 : decode cX4_isThing 16 = .ok (.iconst 0, 1) := dk_3 (dk_at dksX4_isThing_0 16 rfl rfl)
theorem dX4_isThing_17 : decode cX4_isThing 17 = .ok (.ireturn, 1) := dk_172 (dk_at dksX4_isThing_0 17 rfl rfl)
abbrev cX4_fails : ByteArray := prog_18_method_44_code
def yX4_fails : MethodName := ⟨RX4, "fails", "(I)I"⟩
def dkwX4_fails_0 : List UInt8 := [42, 27, 181, 0, 124, 3, 172]
abbrev dktX4_fails_0 : List UInt8 := dkwX4_fails_0 ++ []
theorem dksX4_fails_0 : cX4_fails.data.toList.drop 0 = dktX4_fails_0 := by decide +kernel
theorem dX4_fails_0 : decode cX4_fails 0 = .ok (.aload_n 0, 1) := dk_42 (dk_at dksX4_fails_0 0 rfl rfl)
theorem dX4_fails_1 : decode cX4_fails 1 = .ok (.iload_n 1, 1) := dk_27 (dk_at dksX4_fails_0 1 rfl rfl)
theorem dX4_fails_2 : decode cX4_fails 2 = .ok (.putfield 124, 3) := dk_181 0 124 (dk_at dksX4_fails_0 2 rfl rfl)
theorem dX4_fails_5 : decode cX4_fails 5 = .ok (.iconst 0, 1) := dk_3 (dk_at dksX4_fails_0 5 rfl rfl)
theorem dX4_fails_6 : decode cX4_fails 6 = .ok (.ireturn, 1) := dk_172 (dk_at dksX4_fails_0 6 rfl rfl)
abbrev cX4_teller : ByteArray := prog_18_method_46_code
def yX4_teller : MethodName := ⟨RX4, "teller", "(II)I"⟩
def dkwX4_teller_3 : List UInt8 := [180, 0, 47, 27, 46, 172, 2, 172]
abbrev dktX4_teller_3 : List UInt8 := dkwX4_teller_3 ++ []
def dkwX4_teller_2 : List UInt8 := [42, 180, 0, 38, 27, 46, 172, 42, 180, 0, 41, 27, 46, 172, 42, 180, 0, 44, 27, 46, 172, 42]
abbrev dktX4_teller_2 : List UInt8 := dkwX4_teller_2 ++ dktX4_teller_3
def dkwX4_teller_1 : List UInt8 := [170, 0, 0, 0, 0, 0, 0, 60, 0, 0, 0, 0, 0, 0, 0, 3, 0, 0, 0, 32, 0, 0, 0, 39, 0, 0, 0, 46, 0, 0, 0, 53]
abbrev dktX4_teller_1 : List UInt8 := dkwX4_teller_1 ++ dktX4_teller_2
def dkwX4_teller_0 : List UInt8 := [42, 3, 181, 0, 124, 42, 27, 182, 1, 59, 154, 0, 5, 2, 172, 28]
abbrev dktX4_teller_0 : List UInt8 := dkwX4_teller_0 ++ dktX4_teller_1
theorem dksX4_teller_0 : cX4_teller.data.toList.drop 0 = dktX4_teller_0 := by decide +kernel
theorem dksX4_teller_1 : cX4_teller.data.toList.drop 16 = dktX4_teller_1 := dk_seg dksX4_teller_0 16 rfl rfl
theorem dksX4_teller_2 : cX4_teller.data.toList.drop 48 = dktX4_teller_2 := dk_seg dksX4_teller_1 32 rfl rfl
theorem dksX4_teller_3 : cX4_teller.data.toList.drop 70 = dktX4_teller_3 := dk_seg dksX4_teller_2 22 rfl rfl
theorem dX4_teller_0 : decode cX4_teller 0 = .ok (.aload_n 0, 1) := dk_42 (dk_at dksX4_teller_0 0 rfl rfl)
theorem dX4_teller_1 : decode cX4_teller 1 = .ok (.iconst 0, 1) := dk_3 (dk_at dksX4_teller_0 1 rfl rfl)
theorem dX4_teller_2 : decode cX4_teller 2 = .ok (.putfield 124, 3) := dk_181 0 124 (dk_at dksX4_teller_0 2 rfl rfl)
theorem dX4_teller_5 : decode cX4_teller 5 = .ok (.aload_n 0, 1) := dk_42 (dk_at dksX4_teller_0 5 rfl rfl)
theorem dX4_teller_6 : decode cX4_teller 6 = .ok (.iload_n 1, 1) := dk_27 (dk_at dksX4_teller_0 6 rfl rfl)
theorem dX4_teller_7 : decode cX4_teller 7 = .ok (.invokevirtual 315, 3) := dk_182 1 59 (dk_at dksX4_teller_0 7 rfl rfl)
theorem dX4_teller_10 : decode cX4_teller 10 = .ok (.ifCond .ne 5, 3) := dk_154 0 5 (dk_at dksX4_teller_0 10 rfl rfl)
theorem dX4_teller_13 : decode cX4_teller 13 = .ok (.iconst (-1), 1) := dk_2 (dk_at dksX4_teller_0 13 rfl rfl)
theorem dX4_teller_14 : decode cX4_teller 14 = .ok (.ireturn, 1) := dk_172 (dk_at dksX4_teller_0 14 rfl rfl)
theorem dX4_teller_15 : decode cX4_teller 15 = .ok (.iload_n 2, 1) := dk_28 (dk_at dksX4_teller_0 15 rfl rfl)
theorem dX4_teller_16 : decode cX4_teller 16 = .ok (.tableswitch 60 0 3 #[32, 39, 46, 53], 32) := by decide +kernel
theorem dX4_teller_48 : decode cX4_teller 48 = .ok (.aload_n 0, 1) := dk_42 (dk_at dksX4_teller_2 0 rfl rfl)
theorem dX4_teller_49 : decode cX4_teller 49 = .ok (.getfield 38, 3) := dk_180 0 38 (dk_at dksX4_teller_2 1 rfl rfl)
theorem dX4_teller_52 : decode cX4_teller 52 = .ok (.iload_n 1, 1) := dk_27 (dk_at dksX4_teller_2 4 rfl rfl)
theorem dX4_teller_53 : decode cX4_teller 53 = .ok (.iaload, 1) := dk_46 (dk_at dksX4_teller_2 5 rfl rfl)
theorem dX4_teller_54 : decode cX4_teller 54 = .ok (.ireturn, 1) := dk_172 (dk_at dksX4_teller_2 6 rfl rfl)
theorem dX4_teller_55 : decode cX4_teller 55 = .ok (.aload_n 0, 1) := dk_42 (dk_at dksX4_teller_2 7 rfl rfl)
theorem dX4_teller_56 : decode cX4_teller 56 = .ok (.getfield 41, 3) := dk_180 0 41 (dk_at dksX4_teller_2 8 rfl rfl)
theorem dX4_teller_59 : decode cX4_teller 59 = .ok (.iload_n 1, 1) := dk_27 (dk_at dksX4_teller_2 11 rfl rfl)
theorem dX4_teller_60 : decode cX4_teller 60 = .ok (.iaload, 1) := dk_46 (dk_at dksX4_teller_2 12 rfl rfl)
theorem dX4_teller_61 : decode cX4_teller 61 = .ok (.ireturn, 1) := dk_172 (dk_at dksX4_teller_2 13 rfl rfl)
theorem dX4_teller_62 : decode cX4_teller 62 = .ok (.aload_n 0, 1) := dk_42 (dk_at dksX4_teller_2 14 rfl rfl)
theorem dX4_teller_63 : decode cX4_teller 63 = .ok (.getfield 44, 3) := dk_180 0 44 (dk_at dksX4_teller_2 15 rfl rfl)
theorem dX4_teller_66 : decode cX4_teller 66 = .ok (.iload_n 1, 1) := dk_27 (dk_at dksX4_teller_2 18 rfl rfl)
theorem dX4_teller_67 : decode cX4_teller 67 = .ok (.iaload, 1) := dk_46 (dk_at dksX4_teller_2 19 rfl rfl)
theorem dX4_teller_68 : decode cX4_teller 68 = .ok (.ireturn, 1) := dk_172 (dk_at dksX4_teller_2 20 rfl rfl)
theorem dX4_teller_69 : decode cX4_teller 69 = .ok (.aload_n 0, 1) := dk_42 (dk_at dksX4_teller_2 21 rfl rfl)
theorem dX4_teller_70 : decode cX4_teller 70 = .ok (.getfield 47, 3) := dk_180 0 47 (dk_at dksX4_teller_3 0 rfl rfl)
theorem dX4_teller_73 : decode cX4_teller 73 = .ok (.iload_n 1, 1) := dk_27 (dk_at dksX4_teller_3 3 rfl rfl)
theorem dX4_teller_74 : decode cX4_teller 74 = .ok (.iaload, 1) := dk_46 (dk_at dksX4_teller_3 4 rfl rfl)
theorem dX4_teller_75 : decode cX4_teller 75 = .ok (.ireturn, 1) := dk_172 (dk_at dksX4_teller_3 5 rfl rfl)
theorem dX4_teller_76 : decode cX4_teller 76 = .ok (.iconst (-1), 1) := dk_2 (dk_at dksX4_teller_3 6 rfl rfl)
theorem dX4_teller_77 : decode cX4_teller 77 = .ok (.ireturn, 1) := dk_172 (dk_at dksX4_teller_3 7 rfl rfl)
abbrev cX4_isTeller : ByteArray := prog_18_method_43_code
def yX4_isTeller : MethodName := ⟨RX4, "isTeller", "(I)Z"⟩
def dkwX4_isTeller_0 : List UInt8 := [27, 155, 0, 15, 27, 42, 180, 0, 195, 162, 0, 7, 4, 167, 0, 4, 3, 172]
abbrev dktX4_isTeller_0 : List UInt8 := dkwX4_isTeller_0 ++ []
theorem dksX4_isTeller_0 : cX4_isTeller.data.toList.drop 0 = dktX4_isTeller_0 := by decide +kernel
theorem dX4_isTeller_0 : decode cX4_isTeller 0 = .ok (.iload_n 1, 1) := dk_27 (dk_at dksX4_isTeller_0 0 rfl rfl)
theorem dX4_isTeller_1 : decode cX4_isTeller 1 = .ok (.ifCond .lt 15, 3) := dk_155 0 15 (dk_at dksX4_isTeller_0 1 rfl rfl)
theorem dX4_isTeller_4 : decode cX4_isTeller 4 = .ok (.iload_n 1, 1) := dk_27 (dk_at dksX4_isTeller_0 4 rfl rfl)
theorem dX4_isTeller_5 : decode cX4_isTeller 5 = .ok (.aload_n 0, 1) := dk_42 (dk_at dksX4_isTeller_0 5 rfl rfl)
theorem dX4_isTeller_6 : decode cX4_isTeller 6 = .ok (.getfield 195, 3) := dk_180 0 195 (dk_at dksX4_isTeller_0 6 rfl rfl)
theorem dX4_isTeller_9 : decode cX4_isTeller 9 = .ok (.if_icmp .ge 7, 3) := dk_162 0 7 (dk_at dksX4_isTeller_0 9 rfl rfl)
theorem dX4_isTeller_12 : decode cX4_isTeller 12 = .ok (.iconst 1, 1) := dk_4 (dk_at dksX4_isTeller_0 12 rfl rfl)
theorem dX4_isTeller_13 : decode cX4_isTeller 13 = .ok (.goto 4, 3) := dk_167 0 4 (dk_at dksX4_isTeller_0 13 rfl rfl)
theorem dX4_isTeller_16 : decode cX4_isTeller 16 = .ok (.iconst 0, 1) := dk_3 (dk_at dksX4_isTeller_0 16 rfl rfl)
theorem dX4_isTeller_17 : decode cX4_isTeller 17 = .ok (.ireturn, 1) := dk_172 (dk_at dksX4_isTeller_0 17 rfl rfl)
abbrev cX4_line : ByteArray := prog_18_method_51_code
def yX4_line : MethodName := ⟨RX4, "line", "(II)I"⟩
def dkwX4_line_3 : List UInt8 := [180, 0, 57, 27, 46, 172, 42, 180, 0, 60, 27, 46, 172, 42, 180, 0, 63, 27, 46, 172, 16, 254, 172]
abbrev dktX4_line_3 : List UInt8 := dkwX4_line_3 ++ []
def dkwX4_line_2 : List UInt8 := [42, 180, 0, 50, 27, 51, 153, 0, 7, 4, 167, 0, 4, 3, 172, 42, 180, 0, 54, 27, 46, 172, 42]
abbrev dktX4_line_2 : List UInt8 := dkwX4_line_2 ++ dktX4_line_3
def dkwX4_line_1 : List UInt8 := [170, 0, 0, 0, 0, 0, 78, 0, 0, 0, 0, 0, 0, 0, 4, 0, 0, 0, 35, 0, 0, 0, 50, 0, 0, 0, 57, 0, 0, 0, 64, 0, 0, 0, 71]
abbrev dktX4_line_1 : List UInt8 := dkwX4_line_1 ++ dktX4_line_2
def dkwX4_line_0 : List UInt8 := [42, 3, 181, 0, 124, 42, 27, 182, 1, 62, 154, 0, 6, 16, 254, 172, 28]
abbrev dktX4_line_0 : List UInt8 := dkwX4_line_0 ++ dktX4_line_1
theorem dksX4_line_0 : cX4_line.data.toList.drop 0 = dktX4_line_0 := by decide +kernel
theorem dksX4_line_1 : cX4_line.data.toList.drop 17 = dktX4_line_1 := dk_seg dksX4_line_0 17 rfl rfl
theorem dksX4_line_2 : cX4_line.data.toList.drop 52 = dktX4_line_2 := dk_seg dksX4_line_1 35 rfl rfl
theorem dksX4_line_3 : cX4_line.data.toList.drop 75 = dktX4_line_3 := dk_seg dksX4_line_2 23 rfl rfl
theorem dX4_line_0 : decode cX4_line 0 = .ok (.aload_n 0, 1) := dk_42 (dk_at dksX4_line_0 0 rfl rfl)
theorem dX4_line_1 : decode cX4_line 1 = .ok (.iconst 0, 1) := dk_3 (dk_at dksX4_line_0 1 rfl rfl)
theorem dX4_line_2 : decode cX4_line 2 = .ok (.putfield 124, 3) := dk_181 0 124 (dk_at dksX4_line_0 2 rfl rfl)
theorem dX4_line_5 : decode cX4_line 5 = .ok (.aload_n 0, 1) := dk_42 (dk_at dksX4_line_0 5 rfl rfl)
theorem dX4_line_6 : decode cX4_line 6 = .ok (.iload_n 1, 1) := dk_27 (dk_at dksX4_line_0 6 rfl rfl)
theorem dX4_line_7 : decode cX4_line 7 = .ok (.invokevirtual 318, 3) := dk_182 1 62 (dk_at dksX4_line_0 7 rfl rfl)
theorem dX4_line_10 : decode cX4_line 10 = .ok (.ifCond .ne 6, 3) := dk_154 0 6 (dk_at dksX4_line_0 10 rfl rfl)
theorem dX4_line_13 : decode cX4_line 13 = .ok (.bipush (-2), 2) := dk_16 254 (dk_at dksX4_line_0 13 rfl rfl)
theorem dX4_line_15 : decode cX4_line 15 = .ok (.ireturn, 1) := dk_172 (dk_at dksX4_line_0 15 rfl rfl)
theorem dX4_line_16 : decode cX4_line 16 = .ok (.iload_n 2, 1) := dk_28 (dk_at dksX4_line_0 16 rfl rfl)
theorem dX4_line_17 : decode cX4_line 17 = .ok (.tableswitch 78 0 4 #[35, 50, 57, 64, 71], 35) := by decide +kernel
theorem dX4_line_52 : decode cX4_line 52 = .ok (.aload_n 0, 1) := dk_42 (dk_at dksX4_line_2 0 rfl rfl)
theorem dX4_line_53 : decode cX4_line 53 = .ok (.getfield 50, 3) := dk_180 0 50 (dk_at dksX4_line_2 1 rfl rfl)
theorem dX4_line_56 : decode cX4_line 56 = .ok (.iload_n 1, 1) := dk_27 (dk_at dksX4_line_2 4 rfl rfl)
theorem dX4_line_57 : decode cX4_line 57 = .ok (.baload, 1) := dk_51 (dk_at dksX4_line_2 5 rfl rfl)
theorem dX4_line_58 : decode cX4_line 58 = .ok (.ifCond .eq 7, 3) := dk_153 0 7 (dk_at dksX4_line_2 6 rfl rfl)
theorem dX4_line_61 : decode cX4_line 61 = .ok (.iconst 1, 1) := dk_4 (dk_at dksX4_line_2 9 rfl rfl)
theorem dX4_line_62 : decode cX4_line 62 = .ok (.goto 4, 3) := dk_167 0 4 (dk_at dksX4_line_2 10 rfl rfl)
theorem dX4_line_65 : decode cX4_line 65 = .ok (.iconst 0, 1) := dk_3 (dk_at dksX4_line_2 13 rfl rfl)
theorem dX4_line_66 : decode cX4_line 66 = .ok (.ireturn, 1) := dk_172 (dk_at dksX4_line_2 14 rfl rfl)
theorem dX4_line_67 : decode cX4_line 67 = .ok (.aload_n 0, 1) := dk_42 (dk_at dksX4_line_2 15 rfl rfl)
theorem dX4_line_68 : decode cX4_line 68 = .ok (.getfield 54, 3) := dk_180 0 54 (dk_at dksX4_line_2 16 rfl rfl)
theorem dX4_line_71 : decode cX4_line 71 = .ok (.iload_n 1, 1) := dk_27 (dk_at dksX4_line_2 19 rfl rfl)
theorem dX4_line_72 : decode cX4_line 72 = .ok (.iaload, 1) := dk_46 (dk_at dksX4_line_2 20 rfl rfl)
theorem dX4_line_73 : decode cX4_line 73 = .ok (.ireturn, 1) := dk_172 (dk_at dksX4_line_2 21 rfl rfl)
theorem dX4_line_74 : decode cX4_line 74 = .ok (.aload_n 0, 1) := dk_42 (dk_at dksX4_line_2 22 rfl rfl)
theorem dX4_line_75 : decode cX4_line 75 = .ok (.getfield 57, 3) := dk_180 0 57 (dk_at dksX4_line_3 0 rfl rfl)
theorem dX4_line_78 : decode cX4_line 78 = .ok (.iload_n 1, 1) := dk_27 (dk_at dksX4_line_3 3 rfl rfl)
theorem dX4_line_79 : decode cX4_line 79 = .ok (.iaload, 1) := dk_46 (dk_at dksX4_line_3 4 rfl rfl)
theorem dX4_line_80 : decode cX4_line 80 = .ok (.ireturn, 1) := dk_172 (dk_at dksX4_line_3 5 rfl rfl)
theorem dX4_line_81 : decode cX4_line 81 = .ok (.aload_n 0, 1) := dk_42 (dk_at dksX4_line_3 6 rfl rfl)
theorem dX4_line_82 : decode cX4_line 82 = .ok (.getfield 60, 3) := dk_180 0 60 (dk_at dksX4_line_3 7 rfl rfl)
theorem dX4_line_85 : decode cX4_line 85 = .ok (.iload_n 1, 1) := dk_27 (dk_at dksX4_line_3 10 rfl rfl)
theorem dX4_line_86 : decode cX4_line 86 = .ok (.iaload, 1) := dk_46 (dk_at dksX4_line_3 11 rfl rfl)
theorem dX4_line_87 : decode cX4_line 87 = .ok (.ireturn, 1) := dk_172 (dk_at dksX4_line_3 12 rfl rfl)
theorem dX4_line_88 : decode cX4_line 88 = .ok (.aload_n 0, 1) := dk_42 (dk_at dksX4_line_3 13 rfl rfl)
theorem dX4_line_89 : decode cX4_line 89 = .ok (.getfield 63, 3) := dk_180 0 63 (dk_at dksX4_line_3 14 rfl rfl)
theorem dX4_line_92 : decode cX4_line 92 = .ok (.iload_n 1, 1) := dk_27 (dk_at dksX4_line_3 17 rfl rfl)
theorem dX4_line_93 : decode cX4_line 93 = .ok (.iaload, 1) := dk_46 (dk_at dksX4_line_3 18 rfl rfl)
theorem dX4_line_94 : decode cX4_line 94 = .ok (.ireturn, 1) := dk_172 (dk_at dksX4_line_3 19 rfl rfl)
theorem dX4_line_95 : decode cX4_line 95 = .ok (.bipush (-2), 2) := dk_16 254 (dk_at dksX4_line_3 20 rfl rfl)
theorem dX4_line_97 : decode cX4_line 97 = .ok (.ireturn, 1) := dk_172 (dk_at dksX4_line_3 22 rfl rfl)
abbrev cX4_isHeard : ByteArray := prog_18_method_47_code
def yX4_isHeard : MethodName := ⟨RX4, "isHeard", "(I)Z"⟩
def dkwX4_isHeard_1 : List UInt8 := [163, 0, 7, 4, 167, 0, 4, 3, 172]
abbrev dktX4_isHeard_1 : List UInt8 := dkwX4_isHeard_1 ++ []
def dkwX4_isHeard_0 : List UInt8 := [27, 155, 0, 28, 27, 42, 180, 0, 198, 162, 0, 20, 42, 180, 0, 57, 27, 46, 42, 180, 0, 214]
abbrev dktX4_isHeard_0 : List UInt8 := dkwX4_isHeard_0 ++ dktX4_isHeard_1
theorem dksX4_isHeard_0 : cX4_isHeard.data.toList.drop 0 = dktX4_isHeard_0 := by decide +kernel
theorem dksX4_isHeard_1 : cX4_isHeard.data.toList.drop 22 = dktX4_isHeard_1 := dk_seg dksX4_isHeard_0 22 rfl rfl
theorem dX4_isHeard_0 : decode cX4_isHeard 0 = .ok (.iload_n 1, 1) := dk_27 (dk_at dksX4_isHeard_0 0 rfl rfl)
theorem dX4_isHeard_1 : decode cX4_isHeard 1 = .ok (.ifCond .lt 28, 3) := dk_155 0 28 (dk_at dksX4_isHeard_0 1 rfl rfl)
theorem dX4_isHeard_4 : decode cX4_isHeard 4 = .ok (.iload_n 1, 1) := dk_27 (dk_at dksX4_isHeard_0 4 rfl rfl)
theorem dX4_isHeard_5 : decode cX4_isHeard 5 = .ok (.aload_n 0, 1) := dk_42 (dk_at dksX4_isHeard_0 5 rfl rfl)
theorem dX4_isHeard_6 : decode cX4_isHeard 6 = .ok (.getfield 198, 3) := dk_180 0 198 (dk_at dksX4_isHeard_0 6 rfl rfl)
theorem dX4_isHeard_9 : decode cX4_isHeard 9 = .ok (.if_icmp .ge 20, 3) := dk_162 0 20 (dk_at dksX4_isHeard_0 9 rfl rfl)
theorem dX4_isHeard_12 : decode cX4_isHeard 12 = .ok (.aload_n 0, 1) := dk_42 (dk_at dksX4_isHeard_0 12 rfl rfl)
theorem dX4_isHeard_13 : decode cX4_isHeard 13 = .ok (.getfield 57, 3) := dk_180 0 57 (dk_at dksX4_isHeard_0 13 rfl rfl)
theorem dX4_isHeard_16 : decode cX4_isHeard 16 = .ok (.iload_n 1, 1) := dk_27 (dk_at dksX4_isHeard_0 16 rfl rfl)
theorem dX4_isHeard_17 : decode cX4_isHeard 17 = .ok (.iaload, 1) := dk_46 (dk_at dksX4_isHeard_0 17 rfl rfl)
theorem dX4_isHeard_18 : decode cX4_isHeard 18 = .ok (.aload_n 0, 1) := dk_42 (dk_at dksX4_isHeard_0 18 rfl rfl)
theorem dX4_isHeard_19 : decode cX4_isHeard 19 = .ok (.getfield 214, 3) := dk_180 0 214 (dk_at dksX4_isHeard_0 19 rfl rfl)
theorem dX4_isHeard_22 : decode cX4_isHeard 22 = .ok (.if_icmp .gt 7, 3) := dk_163 0 7 (dk_at dksX4_isHeard_1 0 rfl rfl)
theorem dX4_isHeard_25 : decode cX4_isHeard 25 = .ok (.iconst 1, 1) := dk_4 (dk_at dksX4_isHeard_1 3 rfl rfl)
theorem dX4_isHeard_26 : decode cX4_isHeard 26 = .ok (.goto 4, 3) := dk_167 0 4 (dk_at dksX4_isHeard_1 4 rfl rfl)
theorem dX4_isHeard_29 : decode cX4_isHeard 29 = .ok (.iconst 0, 1) := dk_3 (dk_at dksX4_isHeard_1 7 rfl rfl)
theorem dX4_isHeard_30 : decode cX4_isHeard 30 = .ok (.ireturn, 1) := dk_172 (dk_at dksX4_isHeard_1 8 rfl rfl)
abbrev cX4_say : ByteArray := prog_18_method_52_code
def yX4_say : MethodName := ⟨RX4, "say", "(ZIIII)I"⟩
def dkwX4_say_7 : List UInt8 := [181, 0, 211, 42, 180, 0, 198, 4, 100, 172]
abbrev dktX4_say_7 : List UInt8 := dkwX4_say_7 ++ []
def dkwX4_say_6 : List UInt8 := [42, 180, 0, 198, 21, 5, 79, 42, 89, 180, 0, 198, 4, 96, 181, 0, 198, 42, 89, 180, 0, 211, 4, 96]
abbrev dktX4_say_6 : List UInt8 := dkwX4_say_6 ++ dktX4_say_7
def dkwX4_say_5 : List UInt8 := [180, 0, 57, 42, 180, 0, 198, 29, 79, 42, 180, 0, 60, 42, 180, 0, 198, 21, 4, 79, 42, 180, 0, 63]
abbrev dktX4_say_5 : List UInt8 := dkwX4_say_5 ++ dktX4_say_6
def dkwX4_say_4 : List UInt8 := [172, 42, 180, 0, 50, 42, 180, 0, 198, 27, 84, 42, 180, 0, 54, 42, 180, 0, 198, 28, 79, 42]
abbrev dktX4_say_4 : List UInt8 := dkwX4_say_4 ++ dktX4_say_5
def dkwX4_say_3 : List UInt8 := [180, 0, 23, 21, 4, 46, 162, 0, 17, 21, 5, 27, 153, 0, 7, 3, 167, 0, 4, 2, 162, 0, 5, 2]
abbrev dktX4_say_3 : List UInt8 := dkwX4_say_3 ++ dktX4_say_4
def dkwX4_say_2 : List UInt8 := [46, 163, 0, 17, 29, 42, 3, 42, 180, 0, 198, 28, 182, 0, 238, 162, 0, 5, 2, 172, 21, 5, 42]
abbrev dktX4_say_2 : List UInt8 := dkwX4_say_2 ++ dktX4_say_3
def dkwX4_say_1 : List UInt8 := [21, 4, 182, 1, 53, 153, 0, 37, 29, 42, 180, 0, 41, 28, 46, 161, 0, 27, 29, 42, 180, 0, 44, 28]
abbrev dktX4_say_1 : List UInt8 := dkwX4_say_1 ++ dktX4_say_2
def dkwX4_say_0 : List UInt8 := [42, 3, 181, 0, 124, 42, 180, 0, 198, 16, 60, 159, 0, 54, 42, 28, 182, 1, 59, 153, 0, 46, 42]
abbrev dktX4_say_0 : List UInt8 := dkwX4_say_0 ++ dktX4_say_1
theorem dksX4_say_0 : cX4_say.data.toList.drop 0 = dktX4_say_0 := by decide +kernel
theorem dksX4_say_1 : cX4_say.data.toList.drop 23 = dktX4_say_1 := dk_seg dksX4_say_0 23 rfl rfl
theorem dksX4_say_2 : cX4_say.data.toList.drop 47 = dktX4_say_2 := dk_seg dksX4_say_1 24 rfl rfl
theorem dksX4_say_3 : cX4_say.data.toList.drop 70 = dktX4_say_3 := dk_seg dksX4_say_2 23 rfl rfl
theorem dksX4_say_4 : cX4_say.data.toList.drop 94 = dktX4_say_4 := dk_seg dksX4_say_3 24 rfl rfl
theorem dksX4_say_5 : cX4_say.data.toList.drop 116 = dktX4_say_5 := dk_seg dksX4_say_4 22 rfl rfl
theorem dksX4_say_6 : cX4_say.data.toList.drop 140 = dktX4_say_6 := dk_seg dksX4_say_5 24 rfl rfl
theorem dksX4_say_7 : cX4_say.data.toList.drop 164 = dktX4_say_7 := dk_seg dksX4_say_6 24 rfl rfl
theorem dX4_say_0 : decode cX4_say 0 = .ok (.aload_n 0, 1) := dk_42 (dk_at dksX4_say_0 0 rfl rfl)
theorem dX4_say_1 : decode cX4_say 1 = .ok (.iconst 0, 1) := dk_3 (dk_at dksX4_say_0 1 rfl rfl)
theorem dX4_say_2 : decode cX4_say 2 = .ok (.putfield 124, 3) := dk_181 0 124 (dk_at dksX4_say_0 2 rfl rfl)
theorem dX4_say_5 : decode cX4_say 5 = .ok (.aload_n 0, 1) := dk_42 (dk_at dksX4_say_0 5 rfl rfl)
theorem dX4_say_6 : decode cX4_say 6 = .ok (.getfield 198, 3) := dk_180 0 198 (dk_at dksX4_say_0 6 rfl rfl)
theorem dX4_say_9 : decode cX4_say 9 = .ok (.bipush 60, 2) := dk_16 60 (dk_at dksX4_say_0 9 rfl rfl)
theorem dX4_say_11 : decode cX4_say 11 = .ok (.if_icmp .eq 54, 3) := dk_159 0 54 (dk_at dksX4_say_0 11 rfl rfl)
theorem dX4_say_14 : decode cX4_say 14 = .ok (.aload_n 0, 1) := dk_42 (dk_at dksX4_say_0 14 rfl rfl)
theorem dX4_say_15 : decode cX4_say 15 = .ok (.iload_n 2, 1) := dk_28 (dk_at dksX4_say_0 15 rfl rfl)
theorem dX4_say_16 : decode cX4_say 16 = .ok (.invokevirtual 315, 3) := dk_182 1 59 (dk_at dksX4_say_0 16 rfl rfl)
theorem dX4_say_19 : decode cX4_say 19 = .ok (.ifCond .eq 46, 3) := dk_153 0 46 (dk_at dksX4_say_0 19 rfl rfl)
theorem dX4_say_22 : decode cX4_say 22 = .ok (.aload_n 0, 1) := dk_42 (dk_at dksX4_say_0 22 rfl rfl)
theorem dX4_say_23 : decode cX4_say 23 = .ok (.iload 4, 2) := dk_21 4 (dk_at dksX4_say_1 0 rfl rfl)
theorem dX4_say_25 : decode cX4_say 25 = .ok (.invokevirtual 309, 3) := dk_182 1 53 (dk_at dksX4_say_1 2 rfl rfl)
theorem dX4_say_28 : decode cX4_say 28 = .ok (.ifCond .eq 37, 3) := dk_153 0 37 (dk_at dksX4_say_1 5 rfl rfl)
theorem dX4_say_31 : decode cX4_say 31 = .ok (.iload_n 3, 1) := dk_29 (dk_at dksX4_say_1 8 rfl rfl)
theorem dX4_say_32 : decode cX4_say 32 = .ok (.aload_n 0, 1) := dk_42 (dk_at dksX4_say_1 9 rfl rfl)
theorem dX4_say_33 : decode cX4_say 33 = .ok (.getfield 41, 3) := dk_180 0 41 (dk_at dksX4_say_1 10 rfl rfl)
theorem dX4_say_36 : decode cX4_say 36 = .ok (.iload_n 2, 1) := dk_28 (dk_at dksX4_say_1 13 rfl rfl)
theorem dX4_say_37 : decode cX4_say 37 = .ok (.iaload, 1) := dk_46 (dk_at dksX4_say_1 14 rfl rfl)
theorem dX4_say_38 : decode cX4_say 38 = .ok (.if_icmp .lt 27, 3) := dk_161 0 27 (dk_at dksX4_say_1 15 rfl rfl)
theorem dX4_say_41 : decode cX4_say 41 = .ok (.iload_n 3, 1) := dk_29 (dk_at dksX4_say_1 18 rfl rfl)
theorem dX4_say_42 : decode cX4_say 42 = .ok (.aload_n 0, 1) := dk_42 (dk_at dksX4_say_1 19 rfl rfl)
theorem dX4_say_43 : decode cX4_say 43 = .ok (.getfield 44, 3) := dk_180 0 44 (dk_at dksX4_say_1 20 rfl rfl)
theorem dX4_say_46 : decode cX4_say 46 = .ok (.iload_n 2, 1) := dk_28 (dk_at dksX4_say_1 23 rfl rfl)
theorem dX4_say_47 : decode cX4_say 47 = .ok (.iaload, 1) := dk_46 (dk_at dksX4_say_2 0 rfl rfl)
theorem dX4_say_48 : decode cX4_say 48 = .ok (.if_icmp .gt 17, 3) := dk_163 0 17 (dk_at dksX4_say_2 1 rfl rfl)
theorem dX4_say_51 : decode cX4_say 51 = .ok (.iload_n 3, 1) := dk_29 (dk_at dksX4_say_2 4 rfl rfl)
theorem dX4_say_52 : decode cX4_say 52 = .ok (.aload_n 0, 1) := dk_42 (dk_at dksX4_say_2 5 rfl rfl)
theorem dX4_say_53 : decode cX4_say 53 = .ok (.iconst 0, 1) := dk_3 (dk_at dksX4_say_2 6 rfl rfl)
theorem dX4_say_54 : decode cX4_say 54 = .ok (.aload_n 0, 1) := dk_42 (dk_at dksX4_say_2 7 rfl rfl)
theorem dX4_say_55 : decode cX4_say 55 = .ok (.getfield 198, 3) := dk_180 0 198 (dk_at dksX4_say_2 8 rfl rfl)
theorem dX4_say_58 : decode cX4_say 58 = .ok (.iload_n 2, 1) := dk_28 (dk_at dksX4_say_2 11 rfl rfl)
theorem dX4_say_59 : decode cX4_say 59 = .ok (.invokevirtual 238, 3) := dk_182 0 238 (dk_at dksX4_say_2 12 rfl rfl)
theorem dX4_say_62 : decode cX4_say 62 = .ok (.if_icmp .ge 5, 3) := dk_162 0 5 (dk_at dksX4_say_2 15 rfl rfl)
theorem dX4_say_65 : decode cX4_say 65 = .ok (.iconst (-1), 1) := dk_2 (dk_at dksX4_say_2 18 rfl rfl)
theorem dX4_say_66 : decode cX4_say 66 = .ok (.ireturn, 1) := dk_172 (dk_at dksX4_say_2 19 rfl rfl)
theorem dX4_say_67 : decode cX4_say 67 = .ok (.iload 5, 2) := dk_21 5 (dk_at dksX4_say_2 20 rfl rfl)
theorem dX4_say_69 : decode cX4_say 69 = .ok (.aload_n 0, 1) := dk_42 (dk_at dksX4_say_2 22 rfl rfl)
theorem dX4_say_70 : decode cX4_say 70 = .ok (.getfield 23, 3) := dk_180 0 23 (dk_at dksX4_say_3 0 rfl rfl)
theorem dX4_say_73 : decode cX4_say 73 = .ok (.iload 4, 2) := dk_21 4 (dk_at dksX4_say_3 3 rfl rfl)
theorem dX4_say_75 : decode cX4_say 75 = .ok (.iaload, 1) := dk_46 (dk_at dksX4_say_3 5 rfl rfl)
theorem dX4_say_76 : decode cX4_say 76 = .ok (.if_icmp .ge 17, 3) := dk_162 0 17 (dk_at dksX4_say_3 6 rfl rfl)
theorem dX4_say_79 : decode cX4_say 79 = .ok (.iload 5, 2) := dk_21 5 (dk_at dksX4_say_3 9 rfl rfl)
theorem dX4_say_81 : decode cX4_say 81 = .ok (.iload_n 1, 1) := dk_27 (dk_at dksX4_say_3 11 rfl rfl)
theorem dX4_say_82 : decode cX4_say 82 = .ok (.ifCond .eq 7, 3) := dk_153 0 7 (dk_at dksX4_say_3 12 rfl rfl)
theorem dX4_say_85 : decode cX4_say 85 = .ok (.iconst 0, 1) := dk_3 (dk_at dksX4_say_3 15 rfl rfl)
theorem dX4_say_86 : decode cX4_say 86 = .ok (.goto 4, 3) := dk_167 0 4 (dk_at dksX4_say_3 16 rfl rfl)
theorem dX4_say_89 : decode cX4_say 89 = .ok (.iconst (-1), 1) := dk_2 (dk_at dksX4_say_3 19 rfl rfl)
theorem dX4_say_90 : decode cX4_say 90 = .ok (.if_icmp .ge 5, 3) := dk_162 0 5 (dk_at dksX4_say_3 20 rfl rfl)
theorem dX4_say_93 : decode cX4_say 93 = .ok (.iconst (-1), 1) := dk_2 (dk_at dksX4_say_3 23 rfl rfl)
theorem dX4_say_94 : decode cX4_say 94 = .ok (.ireturn, 1) := dk_172 (dk_at dksX4_say_4 0 rfl rfl)
theorem dX4_say_95 : decode cX4_say 95 = .ok (.aload_n 0, 1) := dk_42 (dk_at dksX4_say_4 1 rfl rfl)
theorem dX4_say_96 : decode cX4_say 96 = .ok (.getfield 50, 3) := dk_180 0 50 (dk_at dksX4_say_4 2 rfl rfl)
theorem dX4_say_99 : decode cX4_say 99 = .ok (.aload_n 0, 1) := dk_42 (dk_at dksX4_say_4 5 rfl rfl)
theorem dX4_say_100 : decode cX4_say 100 = .ok (.getfield 198, 3) := dk_180 0 198 (dk_at dksX4_say_4 6 rfl rfl)
theorem dX4_say_103 : decode cX4_say 103 = .ok (.iload_n 1, 1) := dk_27 (dk_at dksX4_say_4 9 rfl rfl)
theorem dX4_say_104 : decode cX4_say 104 = .ok (.bastore, 1) := dk_84 (dk_at dksX4_say_4 10 rfl rfl)
theorem dX4_say_105 : decode cX4_say 105 = .ok (.aload_n 0, 1) := dk_42 (dk_at dksX4_say_4 11 rfl rfl)
theorem dX4_say_106 : decode cX4_say 106 = .ok (.getfield 54, 3) := dk_180 0 54 (dk_at dksX4_say_4 12 rfl rfl)
theorem dX4_say_109 : decode cX4_say 109 = .ok (.aload_n 0, 1) := dk_42 (dk_at dksX4_say_4 15 rfl rfl)
theorem dX4_say_110 : decode cX4_say 110 = .ok (.getfield 198, 3) := dk_180 0 198 (dk_at dksX4_say_4 16 rfl rfl)
theorem dX4_say_113 : decode cX4_say 113 = .ok (.iload_n 2, 1) := dk_28 (dk_at dksX4_say_4 19 rfl rfl)
theorem dX4_say_114 : decode cX4_say 114 = .ok (.iastore, 1) := dk_79 (dk_at dksX4_say_4 20 rfl rfl)
theorem dX4_say_115 : decode cX4_say 115 = .ok (.aload_n 0, 1) := dk_42 (dk_at dksX4_say_4 21 rfl rfl)
theorem dX4_say_116 : decode cX4_say 116 = .ok (.getfield 57, 3) := dk_180 0 57 (dk_at dksX4_say_5 0 rfl rfl)
theorem dX4_say_119 : decode cX4_say 119 = .ok (.aload_n 0, 1) := dk_42 (dk_at dksX4_say_5 3 rfl rfl)
theorem dX4_say_120 : decode cX4_say 120 = .ok (.getfield 198, 3) := dk_180 0 198 (dk_at dksX4_say_5 4 rfl rfl)
theorem dX4_say_123 : decode cX4_say 123 = .ok (.iload_n 3, 1) := dk_29 (dk_at dksX4_say_5 7 rfl rfl)
theorem dX4_say_124 : decode cX4_say 124 = .ok (.iastore, 1) := dk_79 (dk_at dksX4_say_5 8 rfl rfl)
theorem dX4_say_125 : decode cX4_say 125 = .ok (.aload_n 0, 1) := dk_42 (dk_at dksX4_say_5 9 rfl rfl)
theorem dX4_say_126 : decode cX4_say 126 = .ok (.getfield 60, 3) := dk_180 0 60 (dk_at dksX4_say_5 10 rfl rfl)
theorem dX4_say_129 : decode cX4_say 129 = .ok (.aload_n 0, 1) := dk_42 (dk_at dksX4_say_5 13 rfl rfl)
theorem dX4_say_130 : decode cX4_say 130 = .ok (.getfield 198, 3) := dk_180 0 198 (dk_at dksX4_say_5 14 rfl rfl)
theorem dX4_say_133 : decode cX4_say 133 = .ok (.iload 4, 2) := dk_21 4 (dk_at dksX4_say_5 17 rfl rfl)
theorem dX4_say_135 : decode cX4_say 135 = .ok (.iastore, 1) := dk_79 (dk_at dksX4_say_5 19 rfl rfl)
theorem dX4_say_136 : decode cX4_say 136 = .ok (.aload_n 0, 1) := dk_42 (dk_at dksX4_say_5 20 rfl rfl)
theorem dX4_say_137 : decode cX4_say 137 = .ok (.getfield 63, 3) := dk_180 0 63 (dk_at dksX4_say_5 21 rfl rfl)
theorem dX4_say_140 : decode cX4_say 140 = .ok (.aload_n 0, 1) := dk_42 (dk_at dksX4_say_6 0 rfl rfl)
theorem dX4_say_141 : decode cX4_say 141 = .ok (.getfield 198, 3) := dk_180 0 198 (dk_at dksX4_say_6 1 rfl rfl)
theorem dX4_say_144 : decode cX4_say 144 = .ok (.iload 5, 2) := dk_21 5 (dk_at dksX4_say_6 4 rfl rfl)
theorem dX4_say_146 : decode cX4_say 146 = .ok (.iastore, 1) := dk_79 (dk_at dksX4_say_6 6 rfl rfl)
theorem dX4_say_147 : decode cX4_say 147 = .ok (.aload_n 0, 1) := dk_42 (dk_at dksX4_say_6 7 rfl rfl)
theorem dX4_say_148 : decode cX4_say 148 = .ok (.dup, 1) := dk_89 (dk_at dksX4_say_6 8 rfl rfl)
theorem dX4_say_149 : decode cX4_say 149 = .ok (.getfield 198, 3) := dk_180 0 198 (dk_at dksX4_say_6 9 rfl rfl)
theorem dX4_say_152 : decode cX4_say 152 = .ok (.iconst 1, 1) := dk_4 (dk_at dksX4_say_6 12 rfl rfl)
theorem dX4_say_153 : decode cX4_say 153 = .ok (.iadd, 1) := dk_96 (dk_at dksX4_say_6 13 rfl rfl)
theorem dX4_say_154 : decode cX4_say 154 = .ok (.putfield 198, 3) := dk_181 0 198 (dk_at dksX4_say_6 14 rfl rfl)
theorem dX4_say_157 : decode cX4_say 157 = .ok (.aload_n 0, 1) := dk_42 (dk_at dksX4_say_6 17 rfl rfl)
theorem dX4_say_158 : decode cX4_say 158 = .ok (.dup, 1) := dk_89 (dk_at dksX4_say_6 18 rfl rfl)
theorem dX4_say_159 : decode cX4_say 159 = .ok (.getfield 211, 3) := dk_180 0 211 (dk_at dksX4_say_6 19 rfl rfl)
theorem dX4_say_162 : decode cX4_say 162 = .ok (.iconst 1, 1) := dk_4 (dk_at dksX4_say_6 22 rfl rfl)
theorem dX4_say_163 : decode cX4_say 163 = .ok (.iadd, 1) := dk_96 (dk_at dksX4_say_6 23 rfl rfl)
theorem dX4_say_164 : decode cX4_say 164 = .ok (.putfield 211, 3) := dk_181 0 211 (dk_at dksX4_say_7 0 rfl rfl)
theorem dX4_say_167 : decode cX4_say 167 = .ok (.aload_n 0, 1) := dk_42 (dk_at dksX4_say_7 3 rfl rfl)
theorem dX4_say_168 : decode cX4_say 168 = .ok (.getfield 198, 3) := dk_180 0 198 (dk_at dksX4_say_7 4 rfl rfl)
theorem dX4_say_171 : decode cX4_say 171 = .ok (.iconst 1, 1) := dk_4 (dk_at dksX4_say_7 7 rfl rfl)
theorem dX4_say_172 : decode cX4_say 172 = .ok (.isub, 1) := dk_100 (dk_at dksX4_say_7 8 rfl rfl)
theorem dX4_say_173 : decode cX4_say 173 = .ok (.ireturn, 1) := dk_172 (dk_at dksX4_say_7 9 rfl rfl)
abbrev cX4_undo : ByteArray := prog_18_method_53_code
def yX4_undo : MethodName := ⟨RX4, "undo", "()I"⟩
def dkwX4_undo_1 : List UInt8 := [42, 89, 180, 0, 198, 4, 100, 181, 0, 198, 42, 180, 0, 211, 172]
abbrev dktX4_undo_1 : List UInt8 := dkwX4_undo_1 ++ []
def dkwX4_undo_0 : List UInt8 := [42, 3, 181, 0, 124, 42, 180, 0, 211, 154, 0, 5, 2, 172, 42, 89, 180, 0, 211, 4, 100, 181, 0, 211]
abbrev dktX4_undo_0 : List UInt8 := dkwX4_undo_0 ++ dktX4_undo_1
theorem dksX4_undo_0 : cX4_undo.data.toList.drop 0 = dktX4_undo_0 := by decide +kernel
theorem dksX4_undo_1 : cX4_undo.data.toList.drop 24 = dktX4_undo_1 := dk_seg dksX4_undo_0 24 rfl rfl
theorem dX4_undo_0 : decode cX4_undo 0 = .ok (.aload_n 0, 1) := dk_42 (dk_at dksX4_undo_0 0 rfl rfl)
theorem dX4_undo_1 : decode cX4_undo 1 = .ok (.iconst 0, 1) := dk_3 (dk_at dksX4_undo_0 1 rfl rfl)
theorem dX4_undo_2 : decode cX4_undo 2 = .ok (.putfield 124, 3) := dk_181 0 124 (dk_at dksX4_undo_0 2 rfl rfl)
theorem dX4_undo_5 : decode cX4_undo 5 = .ok (.aload_n 0, 1) := dk_42 (dk_at dksX4_undo_0 5 rfl rfl)
theorem dX4_undo_6 : decode cX4_undo 6 = .ok (.getfield 211, 3) := dk_180 0 211 (dk_at dksX4_undo_0 6 rfl rfl)
theorem dX4_undo_9 : decode cX4_undo 9 = .ok (.ifCond .ne 5, 3) := dk_154 0 5 (dk_at dksX4_undo_0 9 rfl rfl)
theorem dX4_undo_12 : decode cX4_undo 12 = .ok (.iconst (-1), 1) := dk_2 (dk_at dksX4_undo_0 12 rfl rfl)
theorem dX4_undo_13 : decode cX4_undo 13 = .ok (.ireturn, 1) := dk_172 (dk_at dksX4_undo_0 13 rfl rfl)
theorem dX4_undo_14 : decode cX4_undo 14 = .ok (.aload_n 0, 1) := dk_42 (dk_at dksX4_undo_0 14 rfl rfl)
theorem dX4_undo_15 : decode cX4_undo 15 = .ok (.dup, 1) := dk_89 (dk_at dksX4_undo_0 15 rfl rfl)
theorem dX4_undo_16 : decode cX4_undo 16 = .ok (.getfield 211, 3) := dk_180 0 211 (dk_at dksX4_undo_0 16 rfl rfl)
theorem dX4_undo_19 : decode cX4_undo 19 = .ok (.iconst 1, 1) := dk_4 (dk_at dksX4_undo_0 19 rfl rfl)
theorem dX4_undo_20 : decode cX4_undo 20 = .ok (.isub, 1) := dk_100 (dk_at dksX4_undo_0 20 rfl rfl)
theorem dX4_undo_21 : decode cX4_undo 21 = .ok (.putfield 211, 3) := dk_181 0 211 (dk_at dksX4_undo_0 21 rfl rfl)
theorem dX4_undo_24 : decode cX4_undo 24 = .ok (.aload_n 0, 1) := dk_42 (dk_at dksX4_undo_1 0 rfl rfl)
theorem dX4_undo_25 : decode cX4_undo 25 = .ok (.dup, 1) := dk_89 (dk_at dksX4_undo_1 1 rfl rfl)
theorem dX4_undo_26 : decode cX4_undo 26 = .ok (.getfield 198, 3) := dk_180 0 198 (dk_at dksX4_undo_1 2 rfl rfl)
theorem dX4_undo_29 : decode cX4_undo 29 = .ok (.iconst 1, 1) := dk_4 (dk_at dksX4_undo_1 5 rfl rfl)
theorem dX4_undo_30 : decode cX4_undo 30 = .ok (.isub, 1) := dk_100 (dk_at dksX4_undo_1 6 rfl rfl)
theorem dX4_undo_31 : decode cX4_undo 31 = .ok (.putfield 198, 3) := dk_181 0 198 (dk_at dksX4_undo_1 7 rfl rfl)
theorem dX4_undo_34 : decode cX4_undo 34 = .ok (.aload_n 0, 1) := dk_42 (dk_at dksX4_undo_1 10 rfl rfl)
theorem dX4_undo_35 : decode cX4_undo 35 = .ok (.getfield 211, 3) := dk_180 0 211 (dk_at dksX4_undo_1 11 rfl rfl)
theorem dX4_undo_38 : decode cX4_undo 38 = .ok (.ireturn, 1) := dk_172 (dk_at dksX4_undo_1 14 rfl rfl)
abbrev cX4_hear : ByteArray := prog_18_method_55_code
def yX4_hear : MethodName := ⟨RX4, "hear", "(I)I"⟩
def dkwX4_hear_1 : List UInt8 := [182, 1, 72, 172]
abbrev dktX4_hear_1 : List UInt8 := dkwX4_hear_1 ++ []
def dkwX4_hear_0 : List UInt8 := [42, 3, 181, 0, 124, 27, 3, 17, 0, 199, 184, 1, 68, 154, 0, 5, 2, 172, 42, 27, 181, 0, 214, 42]
abbrev dktX4_hear_0 : List UInt8 := dkwX4_hear_0 ++ dktX4_hear_1
theorem dksX4_hear_0 : cX4_hear.data.toList.drop 0 = dktX4_hear_0 := by decide +kernel
theorem dksX4_hear_1 : cX4_hear.data.toList.drop 24 = dktX4_hear_1 := dk_seg dksX4_hear_0 24 rfl rfl
theorem dX4_hear_0 : decode cX4_hear 0 = .ok (.aload_n 0, 1) := dk_42 (dk_at dksX4_hear_0 0 rfl rfl)
theorem dX4_hear_1 : decode cX4_hear 1 = .ok (.iconst 0, 1) := dk_3 (dk_at dksX4_hear_0 1 rfl rfl)
theorem dX4_hear_2 : decode cX4_hear 2 = .ok (.putfield 124, 3) := dk_181 0 124 (dk_at dksX4_hear_0 2 rfl rfl)
theorem dX4_hear_5 : decode cX4_hear 5 = .ok (.iload_n 1, 1) := dk_27 (dk_at dksX4_hear_0 5 rfl rfl)
theorem dX4_hear_6 : decode cX4_hear 6 = .ok (.iconst 0, 1) := dk_3 (dk_at dksX4_hear_0 6 rfl rfl)
theorem dX4_hear_7 : decode cX4_hear 7 = .ok (.sipush 199, 3) := dk_17 0 199 (dk_at dksX4_hear_0 7 rfl rfl)
theorem dX4_hear_10 : decode cX4_hear 10 = .ok (.invokestatic 324, 3) := dk_184 1 68 (dk_at dksX4_hear_0 10 rfl rfl)
theorem dX4_hear_13 : decode cX4_hear 13 = .ok (.ifCond .ne 5, 3) := dk_154 0 5 (dk_at dksX4_hear_0 13 rfl rfl)
theorem dX4_hear_16 : decode cX4_hear 16 = .ok (.iconst (-1), 1) := dk_2 (dk_at dksX4_hear_0 16 rfl rfl)
theorem dX4_hear_17 : decode cX4_hear 17 = .ok (.ireturn, 1) := dk_172 (dk_at dksX4_hear_0 17 rfl rfl)
theorem dX4_hear_18 : decode cX4_hear 18 = .ok (.aload_n 0, 1) := dk_42 (dk_at dksX4_hear_0 18 rfl rfl)
theorem dX4_hear_19 : decode cX4_hear 19 = .ok (.iload_n 1, 1) := dk_27 (dk_at dksX4_hear_0 19 rfl rfl)
theorem dX4_hear_20 : decode cX4_hear 20 = .ok (.putfield 214, 3) := dk_181 0 214 (dk_at dksX4_hear_0 20 rfl rfl)
theorem dX4_hear_23 : decode cX4_hear 23 = .ok (.aload_n 0, 1) := dk_42 (dk_at dksX4_hear_0 23 rfl rfl)
theorem dX4_hear_24 : decode cX4_hear 24 = .ok (.invokevirtual 328, 3) := dk_182 1 72 (dk_at dksX4_hear_1 0 rfl rfl)
theorem dX4_hear_27 : decode cX4_hear 27 = .ok (.ireturn, 1) := dk_172 (dk_at dksX4_hear_1 3 rfl rfl)
abbrev cX4_isIn : ByteArray := prog_18_method_4_code
def yX4_isIn : MethodName := ⟨RX4, "isIn", "(III)Z"⟩
def dkwX4_isIn_0 : List UInt8 := [26, 27, 161, 0, 12, 26, 28, 163, 0, 7, 4, 167, 0, 4, 3, 172]
abbrev dktX4_isIn_0 : List UInt8 := dkwX4_isIn_0 ++ []
theorem dksX4_isIn_0 : cX4_isIn.data.toList.drop 0 = dktX4_isIn_0 := by decide +kernel
theorem dX4_isIn_0 : decode cX4_isIn 0 = .ok (.iload_n 0, 1) := dk_26 (dk_at dksX4_isIn_0 0 rfl rfl)
theorem dX4_isIn_1 : decode cX4_isIn 1 = .ok (.iload_n 1, 1) := dk_27 (dk_at dksX4_isIn_0 1 rfl rfl)
theorem dX4_isIn_2 : decode cX4_isIn 2 = .ok (.if_icmp .lt 12, 3) := dk_161 0 12 (dk_at dksX4_isIn_0 2 rfl rfl)
theorem dX4_isIn_5 : decode cX4_isIn 5 = .ok (.iload_n 0, 1) := dk_26 (dk_at dksX4_isIn_0 5 rfl rfl)
theorem dX4_isIn_6 : decode cX4_isIn 6 = .ok (.iload_n 2, 1) := dk_28 (dk_at dksX4_isIn_0 6 rfl rfl)
theorem dX4_isIn_7 : decode cX4_isIn 7 = .ok (.if_icmp .gt 7, 3) := dk_163 0 7 (dk_at dksX4_isIn_0 7 rfl rfl)
theorem dX4_isIn_10 : decode cX4_isIn 10 = .ok (.iconst 1, 1) := dk_4 (dk_at dksX4_isIn_0 10 rfl rfl)
theorem dX4_isIn_11 : decode cX4_isIn 11 = .ok (.goto 4, 3) := dk_167 0 4 (dk_at dksX4_isIn_0 11 rfl rfl)
theorem dX4_isIn_14 : decode cX4_isIn 14 = .ok (.iconst 0, 1) := dk_3 (dk_at dksX4_isIn_0 14 rfl rfl)
theorem dX4_isIn_15 : decode cX4_isIn 15 = .ok (.ireturn, 1) := dk_172 (dk_at dksX4_isIn_0 15 rfl rfl)
abbrev cX4_heardMany : ByteArray := prog_18_method_54_code
def yX4_heardMany : MethodName := ⟨RX4, "heardMany", "()I"⟩
def dkwX4_heardMany_1 : List UInt8 := [167, 0, 4, 3, 96, 60, 132, 2, 1, 167, 255, 229, 27, 172]
abbrev dktX4_heardMany_1 : List UInt8 := dkwX4_heardMany_1 ++ []
def dkwX4_heardMany_0 : List UInt8 := [3, 60, 3, 61, 28, 42, 180, 0, 198, 162, 0, 25, 27, 42, 28, 182, 1, 62, 153, 0, 7, 4]
abbrev dktX4_heardMany_0 : List UInt8 := dkwX4_heardMany_0 ++ dktX4_heardMany_1
theorem dksX4_heardMany_0 : cX4_heardMany.data.toList.drop 0 = dktX4_heardMany_0 := by decide +kernel
theorem dksX4_heardMany_1 : cX4_heardMany.data.toList.drop 22 = dktX4_heardMany_1 := dk_seg dksX4_heardMany_0 22 rfl rfl
theorem dX4_heardMany_0 : decode cX4_heardMany 0 = .ok (.iconst 0, 1) := dk_3 (dk_at dksX4_heardMany_0 0 rfl rfl)
theorem dX4_heardMany_1 : decode cX4_heardMany 1 = .ok (.istore_n 1, 1) := dk_60 (dk_at dksX4_heardMany_0 1 rfl rfl)
theorem dX4_heardMany_2 : decode cX4_heardMany 2 = .ok (.iconst 0, 1) := dk_3 (dk_at dksX4_heardMany_0 2 rfl rfl)
theorem dX4_heardMany_3 : decode cX4_heardMany 3 = .ok (.istore_n 2, 1) := dk_61 (dk_at dksX4_heardMany_0 3 rfl rfl)
theorem dX4_heardMany_4 : decode cX4_heardMany 4 = .ok (.iload_n 2, 1) := dk_28 (dk_at dksX4_heardMany_0 4 rfl rfl)
theorem dX4_heardMany_5 : decode cX4_heardMany 5 = .ok (.aload_n 0, 1) := dk_42 (dk_at dksX4_heardMany_0 5 rfl rfl)
theorem dX4_heardMany_6 : decode cX4_heardMany 6 = .ok (.getfield 198, 3) := dk_180 0 198 (dk_at dksX4_heardMany_0 6 rfl rfl)
theorem dX4_heardMany_9 : decode cX4_heardMany 9 = .ok (.if_icmp .ge 25, 3) := dk_162 0 25 (dk_at dksX4_heardMany_0 9 rfl rfl)
theorem dX4_heardMany_12 : decode cX4_heardMany 12 = .ok (.iload_n 1, 1) := dk_27 (dk_at dksX4_heardMany_0 12 rfl rfl)
theorem dX4_heardMany_13 : decode cX4_heardMany 13 = .ok (.aload_n 0, 1) := dk_42 (dk_at dksX4_heardMany_0 13 rfl rfl)
theorem dX4_heardMany_14 : decode cX4_heardMany 14 = .ok (.iload_n 2, 1) := dk_28 (dk_at dksX4_heardMany_0 14 rfl rfl)
theorem dX4_heardMany_15 : decode cX4_heardMany 15 = .ok (.invokevirtual 318, 3) := dk_182 1 62 (dk_at dksX4_heardMany_0 15 rfl rfl)
theorem dX4_heardMany_18 : decode cX4_heardMany 18 = .ok (.ifCond .eq 7, 3) := dk_153 0 7 (dk_at dksX4_heardMany_0 18 rfl rfl)
theorem dX4_heardMany_21 : decode cX4_heardMany 21 = .ok (.iconst 1, 1) := dk_4 (dk_at dksX4_heardMany_0 21 rfl rfl)
theorem dX4_heardMany_22 : decode cX4_heardMany 22 = .ok (.goto 4, 3) := dk_167 0 4 (dk_at dksX4_heardMany_1 0 rfl rfl)
theorem dX4_heardMany_25 : decode cX4_heardMany 25 = .ok (.iconst 0, 1) := dk_3 (dk_at dksX4_heardMany_1 3 rfl rfl)
theorem dX4_heardMany_26 : decode cX4_heardMany 26 = .ok (.iadd, 1) := dk_96 (dk_at dksX4_heardMany_1 4 rfl rfl)
theorem dX4_heardMany_27 : decode cX4_heardMany 27 = .ok (.istore_n 1, 1) := dk_60 (dk_at dksX4_heardMany_1 5 rfl rfl)
theorem dX4_heardMany_28 : decode cX4_heardMany 28 = .ok (.iinc 2 1, 3) := dk_132 2 1 (dk_at dksX4_heardMany_1 6 rfl rfl)
theorem dX4_heardMany_31 : decode cX4_heardMany 31 = .ok (.goto (-27), 3) := dk_167 255 229 (dk_at dksX4_heardMany_1 9 rfl rfl)
theorem dX4_heardMany_34 : decode cX4_heardMany 34 = .ok (.iload_n 1, 1) := dk_27 (dk_at dksX4_heardMany_1 12 rfl rfl)
theorem dX4_heardMany_35 : decode cX4_heardMany 35 = .ok (.ireturn, 1) := dk_172 (dk_at dksX4_heardMany_1 13 rfl rfl)
abbrev cX4_word : ByteArray := prog_18_method_63_code
def yX4_word : MethodName := ⟨RX4, "word", "(I)I"⟩
def dkwX4_word_0 : List UInt8 := [42, 3, 181, 0, 124, 42, 27, 182, 1, 65, 153, 0, 11, 42, 27, 182, 1, 99, 167, 0, 4, 2, 172]
abbrev dktX4_word_0 : List UInt8 := dkwX4_word_0 ++ []
theorem dksX4_word_0 : cX4_word.data.toList.drop 0 = dktX4_word_0 := by decide +kernel
theorem dX4_word_0 : decode cX4_word 0 = .ok (.aload_n 0, 1) := dk_42 (dk_at dksX4_word_0 0 rfl rfl)
theorem dX4_word_1 : decode cX4_word 1 = .ok (.iconst 0, 1) := dk_3 (dk_at dksX4_word_0 1 rfl rfl)
theorem dX4_word_2 : decode cX4_word 2 = .ok (.putfield 124, 3) := dk_181 0 124 (dk_at dksX4_word_0 2 rfl rfl)
theorem dX4_word_5 : decode cX4_word 5 = .ok (.aload_n 0, 1) := dk_42 (dk_at dksX4_word_0 5 rfl rfl)
theorem dX4_word_6 : decode cX4_word 6 = .ok (.iload_n 1, 1) := dk_27 (dk_at dksX4_word_0 6 rfl rfl)
theorem dX4_word_7 : decode cX4_word 7 = .ok (.invokevirtual 321, 3) := dk_182 1 65 (dk_at dksX4_word_0 7 rfl rfl)
theorem dX4_word_10 : decode cX4_word 10 = .ok (.ifCond .eq 11, 3) := dk_153 0 11 (dk_at dksX4_word_0 10 rfl rfl)
theorem dX4_word_13 : decode cX4_word 13 = .ok (.aload_n 0, 1) := dk_42 (dk_at dksX4_word_0 13 rfl rfl)
theorem dX4_word_14 : decode cX4_word 14 = .ok (.iload_n 1, 1) := dk_27 (dk_at dksX4_word_0 14 rfl rfl)
theorem dX4_word_15 : decode cX4_word 15 = .ok (.invokevirtual 355, 3) := dk_182 1 99 (dk_at dksX4_word_0 15 rfl rfl)
theorem dX4_word_18 : decode cX4_word 18 = .ok (.goto 4, 3) := dk_167 0 4 (dk_at dksX4_word_0 18 rfl rfl)
theorem dX4_word_21 : decode cX4_word 21 = .ok (.iconst (-1), 1) := dk_2 (dk_at dksX4_word_0 21 rfl rfl)
theorem dX4_word_22 : decode cX4_word 22 = .ok (.ireturn, 1) := dk_172 (dk_at dksX4_word_0 22 rfl rfl)
abbrev cX4_isHeardWord : ByteArray := prog_18_method_48_code
def yX4_isHeardWord : MethodName := ⟨RX4, "isHeardWord", "(I)Z"⟩
def dkwX4_isHeardWord_0 : List UInt8 := [42, 27, 182, 1, 62, 153, 0, 16, 42, 180, 0, 50, 27, 51, 153, 0, 7, 4, 167, 0, 4, 3, 172]
abbrev dktX4_isHeardWord_0 : List UInt8 := dkwX4_isHeardWord_0 ++ []
theorem dksX4_isHeardWord_0 : cX4_isHeardWord.data.toList.drop 0 = dktX4_isHeardWord_0 := by decide +kernel
theorem dX4_isHeardWord_0 : decode cX4_isHeardWord 0 = .ok (.aload_n 0, 1) := dk_42 (dk_at dksX4_isHeardWord_0 0 rfl rfl)
theorem dX4_isHeardWord_1 : decode cX4_isHeardWord 1 = .ok (.iload_n 1, 1) := dk_27 (dk_at dksX4_isHeardWord_0 1 rfl rfl)
theorem dX4_isHeardWord_2 : decode cX4_isHeardWord 2 = .ok (.invokevirtual 318, 3) := dk_182 1 62 (dk_at dksX4_isHeardWord_0 2 rfl rfl)
theorem dX4_isHeardWord_5 : decode cX4_isHeardWord 5 = .ok (.ifCond .eq 16, 3) := dk_153 0 16 (dk_at dksX4_isHeardWord_0 5 rfl rfl)
theorem dX4_isHeardWord_8 : decode cX4_isHeardWord 8 = .ok (.aload_n 0, 1) := dk_42 (dk_at dksX4_isHeardWord_0 8 rfl rfl)
theorem dX4_isHeardWord_9 : decode cX4_isHeardWord 9 = .ok (.getfield 50, 3) := dk_180 0 50 (dk_at dksX4_isHeardWord_0 9 rfl rfl)
theorem dX4_isHeardWord_12 : decode cX4_isHeardWord 12 = .ok (.iload_n 1, 1) := dk_27 (dk_at dksX4_isHeardWord_0 12 rfl rfl)
theorem dX4_isHeardWord_13 : decode cX4_isHeardWord 13 = .ok (.baload, 1) := dk_51 (dk_at dksX4_isHeardWord_0 13 rfl rfl)
theorem dX4_isHeardWord_14 : decode cX4_isHeardWord 14 = .ok (.ifCond .eq 7, 3) := dk_153 0 7 (dk_at dksX4_isHeardWord_0 14 rfl rfl)
theorem dX4_isHeardWord_17 : decode cX4_isHeardWord 17 = .ok (.iconst 1, 1) := dk_4 (dk_at dksX4_isHeardWord_0 17 rfl rfl)
theorem dX4_isHeardWord_18 : decode cX4_isHeardWord 18 = .ok (.goto 4, 3) := dk_167 0 4 (dk_at dksX4_isHeardWord_0 18 rfl rfl)
theorem dX4_isHeardWord_21 : decode cX4_isHeardWord 21 = .ok (.iconst 0, 1) := dk_3 (dk_at dksX4_isHeardWord_0 21 rfl rfl)
theorem dX4_isHeardWord_22 : decode cX4_isHeardWord 22 = .ok (.ireturn, 1) := dk_172 (dk_at dksX4_isHeardWord_0 22 rfl rfl)
abbrev cX4_whatIs : ByteArray := prog_18_method_62_code
def yX4_whatIs : MethodName := ⟨RX4, "whatIs", "(I)I"⟩
def dkwX4_whatIs_9 : List UInt8 := [167, 0, 4, 3, 128, 21, 10, 153, 0, 8, 16, 64, 167, 0, 4, 3, 128, 172]
abbrev dktX4_whatIs_9 : List UInt8 := dkwX4_whatIs_9 ++ []
def dkwX4_whatIs_8 : List UInt8 := [167, 0, 4, 3, 128, 21, 8, 153, 0, 8, 16, 16, 167, 0, 4, 3, 128, 21, 9, 153, 0, 8, 16, 32]
abbrev dktX4_whatIs_8 : List UInt8 := dkwX4_whatIs_8 ++ dktX4_whatIs_9
def dkwX4_whatIs_7 : List UInt8 := [5, 167, 0, 4, 3, 128, 21, 6, 153, 0, 7, 7, 167, 0, 4, 3, 128, 21, 7, 153, 0, 8, 16, 8]
abbrev dktX4_whatIs_7 : List UInt8 := dkwX4_whatIs_7 ++ dktX4_whatIs_8
def dkwX4_whatIs_6 : List UInt8 := [154, 0, 7, 4, 167, 0, 4, 3, 54, 10, 29, 153, 0, 7, 4, 167, 0, 4, 3, 21, 5, 153, 0, 7]
abbrev dktX4_whatIs_6 : List UInt8 := dkwX4_whatIs_6 ++ dktX4_whatIs_7
def dkwX4_whatIs_5 : List UInt8 := [167, 0, 4, 3, 54, 9, 21, 5, 153, 0, 22, 21, 6, 154, 0, 17, 21, 7, 154, 0, 12, 21, 8]
abbrev dktX4_whatIs_5 : List UInt8 := dkwX4_whatIs_5 ++ dktX4_whatIs_6
def dkwX4_whatIs_4 : List UInt8 := [154, 0, 25, 42, 180, 0, 32, 28, 46, 42, 180, 0, 57, 27, 46, 184, 1, 84, 154, 0, 7, 4]
abbrev dktX4_whatIs_4 : List UInt8 := dkwX4_whatIs_4 ++ dktX4_whatIs_5
def dkwX4_whatIs_3 : List UInt8 := [153, 0, 15, 42, 27, 182, 1, 96, 153, 0, 7, 4, 167, 0, 4, 3, 54, 8, 29, 153, 0, 30, 21, 4]
abbrev dktX4_whatIs_3 : List UInt8 := dkwX4_whatIs_3 ++ dktX4_whatIs_4
def dkwX4_whatIs_2 : List UInt8 := [167, 0, 4, 3, 54, 6, 29, 153, 0, 12, 21, 4, 153, 0, 7, 4, 167, 0, 4, 3, 54, 7, 29]
abbrev dktX4_whatIs_2 : List UInt8 := dkwX4_whatIs_2 ++ dktX4_whatIs_3
def dkwX4_whatIs_1 : List UInt8 := [46, 184, 1, 84, 54, 4, 42, 27, 182, 1, 90, 54, 5, 42, 27, 182, 1, 93, 155, 0, 7, 4]
abbrev dktX4_whatIs_1 : List UInt8 := dkwX4_whatIs_1 ++ dktX4_whatIs_2
def dkwX4_whatIs_0 : List UInt8 := [42, 180, 0, 60, 27, 46, 61, 42, 27, 182, 1, 87, 62, 42, 180, 0, 29, 28, 46, 42, 180, 0, 57, 27]
abbrev dktX4_whatIs_0 : List UInt8 := dkwX4_whatIs_0 ++ dktX4_whatIs_1
theorem dksX4_whatIs_0 : cX4_whatIs.data.toList.drop 0 = dktX4_whatIs_0 := by decide +kernel
theorem dksX4_whatIs_1 : cX4_whatIs.data.toList.drop 24 = dktX4_whatIs_1 := dk_seg dksX4_whatIs_0 24 rfl rfl
theorem dksX4_whatIs_2 : cX4_whatIs.data.toList.drop 46 = dktX4_whatIs_2 := dk_seg dksX4_whatIs_1 22 rfl rfl
theorem dksX4_whatIs_3 : cX4_whatIs.data.toList.drop 69 = dktX4_whatIs_3 := dk_seg dksX4_whatIs_2 23 rfl rfl
theorem dksX4_whatIs_4 : cX4_whatIs.data.toList.drop 93 = dktX4_whatIs_4 := dk_seg dksX4_whatIs_3 24 rfl rfl
theorem dksX4_whatIs_5 : cX4_whatIs.data.toList.drop 115 = dktX4_whatIs_5 := dk_seg dksX4_whatIs_4 22 rfl rfl
theorem dksX4_whatIs_6 : cX4_whatIs.data.toList.drop 138 = dktX4_whatIs_6 := dk_seg dksX4_whatIs_5 23 rfl rfl
theorem dksX4_whatIs_7 : cX4_whatIs.data.toList.drop 162 = dktX4_whatIs_7 := dk_seg dksX4_whatIs_6 24 rfl rfl
theorem dksX4_whatIs_8 : cX4_whatIs.data.toList.drop 186 = dktX4_whatIs_8 := dk_seg dksX4_whatIs_7 24 rfl rfl
theorem dksX4_whatIs_9 : cX4_whatIs.data.toList.drop 210 = dktX4_whatIs_9 := dk_seg dksX4_whatIs_8 24 rfl rfl
theorem dX4_whatIs_0 : decode cX4_whatIs 0 = .ok (.aload_n 0, 1) := dk_42 (dk_at dksX4_whatIs_0 0 rfl rfl)
theorem dX4_whatIs_1 : decode cX4_whatIs 1 = .ok (.getfield 60, 3) := dk_180 0 60 (dk_at dksX4_whatIs_0 1 rfl rfl)
theorem dX4_whatIs_4 : decode cX4_whatIs 4 = .ok (.iload_n 1, 1) := dk_27 (dk_at dksX4_whatIs_0 4 rfl rfl)
theorem dX4_whatIs_5 : decode cX4_whatIs 5 = .ok (.iaload, 1) := dk_46 (dk_at dksX4_whatIs_0 5 rfl rfl)
theorem dX4_whatIs_6 : decode cX4_whatIs 6 = .ok (.istore_n 2, 1) := dk_61 (dk_at dksX4_whatIs_0 6 rfl rfl)
theorem dX4_whatIs_7 : decode cX4_whatIs 7 = .ok (.aload_n 0, 1) := dk_42 (dk_at dksX4_whatIs_0 7 rfl rfl)
theorem dX4_whatIs_8 : decode cX4_whatIs 8 = .ok (.iload_n 1, 1) := dk_27 (dk_at dksX4_whatIs_0 8 rfl rfl)
theorem dX4_whatIs_9 : decode cX4_whatIs 9 = .ok (.invokevirtual 343, 3) := dk_182 1 87 (dk_at dksX4_whatIs_0 9 rfl rfl)
theorem dX4_whatIs_12 : decode cX4_whatIs 12 = .ok (.istore_n 3, 1) := dk_62 (dk_at dksX4_whatIs_0 12 rfl rfl)
theorem dX4_whatIs_13 : decode cX4_whatIs 13 = .ok (.aload_n 0, 1) := dk_42 (dk_at dksX4_whatIs_0 13 rfl rfl)
theorem dX4_whatIs_14 : decode cX4_whatIs 14 = .ok (.getfield 29, 3) := dk_180 0 29 (dk_at dksX4_whatIs_0 14 rfl rfl)
theorem dX4_whatIs_17 : decode cX4_whatIs 17 = .ok (.iload_n 2, 1) := dk_28 (dk_at dksX4_whatIs_0 17 rfl rfl)
theorem dX4_whatIs_18 : decode cX4_whatIs 18 = .ok (.iaload, 1) := dk_46 (dk_at dksX4_whatIs_0 18 rfl rfl)
theorem dX4_whatIs_19 : decode cX4_whatIs 19 = .ok (.aload_n 0, 1) := dk_42 (dk_at dksX4_whatIs_0 19 rfl rfl)
theorem dX4_whatIs_20 : decode cX4_whatIs 20 = .ok (.getfield 57, 3) := dk_180 0 57 (dk_at dksX4_whatIs_0 20 rfl rfl)
theorem dX4_whatIs_23 : decode cX4_whatIs 23 = .ok (.iload_n 1, 1) := dk_27 (dk_at dksX4_whatIs_0 23 rfl rfl)
theorem dX4_whatIs_24 : decode cX4_whatIs 24 = .ok (.iaload, 1) := dk_46 (dk_at dksX4_whatIs_1 0 rfl rfl)
theorem dX4_whatIs_25 : decode cX4_whatIs 25 = .ok (.invokestatic 340, 3) := dk_184 1 84 (dk_at dksX4_whatIs_1 1 rfl rfl)
theorem dX4_whatIs_28 : decode cX4_whatIs 28 = .ok (.istore 4, 2) := dk_54 4 (dk_at dksX4_whatIs_1 4 rfl rfl)
theorem dX4_whatIs_30 : decode cX4_whatIs 30 = .ok (.aload_n 0, 1) := dk_42 (dk_at dksX4_whatIs_1 6 rfl rfl)
theorem dX4_whatIs_31 : decode cX4_whatIs 31 = .ok (.iload_n 1, 1) := dk_27 (dk_at dksX4_whatIs_1 7 rfl rfl)
theorem dX4_whatIs_32 : decode cX4_whatIs 32 = .ok (.invokevirtual 346, 3) := dk_182 1 90 (dk_at dksX4_whatIs_1 8 rfl rfl)
theorem dX4_whatIs_35 : decode cX4_whatIs 35 = .ok (.istore 5, 2) := dk_54 5 (dk_at dksX4_whatIs_1 11 rfl rfl)
theorem dX4_whatIs_37 : decode cX4_whatIs 37 = .ok (.aload_n 0, 1) := dk_42 (dk_at dksX4_whatIs_1 13 rfl rfl)
theorem dX4_whatIs_38 : decode cX4_whatIs 38 = .ok (.iload_n 1, 1) := dk_27 (dk_at dksX4_whatIs_1 14 rfl rfl)
theorem dX4_whatIs_39 : decode cX4_whatIs 39 = .ok (.invokevirtual 349, 3) := dk_182 1 93 (dk_at dksX4_whatIs_1 15 rfl rfl)
theorem dX4_whatIs_42 : decode cX4_whatIs 42 = .ok (.ifCond .lt 7, 3) := dk_155 0 7 (dk_at dksX4_whatIs_1 18 rfl rfl)
theorem dX4_whatIs_45 : decode cX4_whatIs 45 = .ok (.iconst 1, 1) := dk_4 (dk_at dksX4_whatIs_1 21 rfl rfl)
theorem dX4_whatIs_46 : decode cX4_whatIs 46 = .ok (.goto 4, 3) := dk_167 0 4 (dk_at dksX4_whatIs_2 0 rfl rfl)
theorem dX4_whatIs_49 : decode cX4_whatIs 49 = .ok (.iconst 0, 1) := dk_3 (dk_at dksX4_whatIs_2 3 rfl rfl)
theorem dX4_whatIs_50 : decode cX4_whatIs 50 = .ok (.istore 6, 2) := dk_54 6 (dk_at dksX4_whatIs_2 4 rfl rfl)
theorem dX4_whatIs_52 : decode cX4_whatIs 52 = .ok (.iload_n 3, 1) := dk_29 (dk_at dksX4_whatIs_2 6 rfl rfl)
theorem dX4_whatIs_53 : decode cX4_whatIs 53 = .ok (.ifCond .eq 12, 3) := dk_153 0 12 (dk_at dksX4_whatIs_2 7 rfl rfl)
theorem dX4_whatIs_56 : decode cX4_whatIs 56 = .ok (.iload 4, 2) := dk_21 4 (dk_at dksX4_whatIs_2 10 rfl rfl)
theorem dX4_whatIs_58 : decode cX4_whatIs 58 = .ok (.ifCond .eq 7, 3) := dk_153 0 7 (dk_at dksX4_whatIs_2 12 rfl rfl)
theorem dX4_whatIs_61 : decode cX4_whatIs 61 = .ok (.iconst 1, 1) := dk_4 (dk_at dksX4_whatIs_2 15 rfl rfl)
theorem dX4_whatIs_62 : decode cX4_whatIs 62 = .ok (.goto 4, 3) := dk_167 0 4 (dk_at dksX4_whatIs_2 16 rfl rfl)
theorem dX4_whatIs_65 : decode cX4_whatIs 65 = .ok (.iconst 0, 1) := dk_3 (dk_at dksX4_whatIs_2 19 rfl rfl)
theorem dX4_whatIs_66 : decode cX4_whatIs 66 = .ok (.istore 7, 2) := dk_54 7 (dk_at dksX4_whatIs_2 20 rfl rfl)
theorem dX4_whatIs_68 : decode cX4_whatIs 68 = .ok (.iload_n 3, 1) := dk_29 (dk_at dksX4_whatIs_2 22 rfl rfl)
theorem dX4_whatIs_69 : decode cX4_whatIs 69 = .ok (.ifCond .eq 15, 3) := dk_153 0 15 (dk_at dksX4_whatIs_3 0 rfl rfl)
theorem dX4_whatIs_72 : decode cX4_whatIs 72 = .ok (.aload_n 0, 1) := dk_42 (dk_at dksX4_whatIs_3 3 rfl rfl)
theorem dX4_whatIs_73 : decode cX4_whatIs 73 = .ok (.iload_n 1, 1) := dk_27 (dk_at dksX4_whatIs_3 4 rfl rfl)
theorem dX4_whatIs_74 : decode cX4_whatIs 74 = .ok (.invokevirtual 352, 3) := dk_182 1 96 (dk_at dksX4_whatIs_3 5 rfl rfl)
theorem dX4_whatIs_77 : decode cX4_whatIs 77 = .ok (.ifCond .eq 7, 3) := dk_153 0 7 (dk_at dksX4_whatIs_3 8 rfl rfl)
theorem dX4_whatIs_80 : decode cX4_whatIs 80 = .ok (.iconst 1, 1) := dk_4 (dk_at dksX4_whatIs_3 11 rfl rfl)
theorem dX4_whatIs_81 : decode cX4_whatIs 81 = .ok (.goto 4, 3) := dk_167 0 4 (dk_at dksX4_whatIs_3 12 rfl rfl)
theorem dX4_whatIs_84 : decode cX4_whatIs 84 = .ok (.iconst 0, 1) := dk_3 (dk_at dksX4_whatIs_3 15 rfl rfl)
theorem dX4_whatIs_85 : decode cX4_whatIs 85 = .ok (.istore 8, 2) := dk_54 8 (dk_at dksX4_whatIs_3 16 rfl rfl)
theorem dX4_whatIs_87 : decode cX4_whatIs 87 = .ok (.iload_n 3, 1) := dk_29 (dk_at dksX4_whatIs_3 18 rfl rfl)
theorem dX4_whatIs_88 : decode cX4_whatIs 88 = .ok (.ifCond .eq 30, 3) := dk_153 0 30 (dk_at dksX4_whatIs_3 19 rfl rfl)
theorem dX4_whatIs_91 : decode cX4_whatIs 91 = .ok (.iload 4, 2) := dk_21 4 (dk_at dksX4_whatIs_3 22 rfl rfl)
theorem dX4_whatIs_93 : decode cX4_whatIs 93 = .ok (.ifCond .ne 25, 3) := dk_154 0 25 (dk_at dksX4_whatIs_4 0 rfl rfl)
theorem dX4_whatIs_96 : decode cX4_whatIs 96 = .ok (.aload_n 0, 1) := dk_42 (dk_at dksX4_whatIs_4 3 rfl rfl)
theorem dX4_whatIs_97 : decode cX4_whatIs 97 = .ok (.getfield 32, 3) := dk_180 0 32 (dk_at dksX4_whatIs_4 4 rfl rfl)
theorem dX4_whatIs_100 : decode cX4_whatIs 100 = .ok (.iload_n 2, 1) := dk_28 (dk_at dksX4_whatIs_4 7 rfl rfl)
theorem dX4_whatIs_101 : decode cX4_whatIs 101 = .ok (.iaload, 1) := dk_46 (dk_at dksX4_whatIs_4 8 rfl rfl)
theorem dX4_whatIs_102 : decode cX4_whatIs 102 = .ok (.aload_n 0, 1) := dk_42 (dk_at dksX4_whatIs_4 9 rfl rfl)
theorem dX4_whatIs_103 : decode cX4_whatIs 103 = .ok (.getfield 57, 3) := dk_180 0 57 (dk_at dksX4_whatIs_4 10 rfl rfl)
theorem dX4_whatIs_106 : decode cX4_whatIs 106 = .ok (.iload_n 1, 1) := dk_27 (dk_at dksX4_whatIs_4 13 rfl rfl)
theorem dX4_whatIs_107 : decode cX4_whatIs 107 = .ok (.iaload, 1) := dk_46 (dk_at dksX4_whatIs_4 14 rfl rfl)
theorem dX4_whatIs_108 : decode cX4_whatIs 108 = .ok (.invokestatic 340, 3) := dk_184 1 84 (dk_at dksX4_whatIs_4 15 rfl rfl)
theorem dX4_whatIs_111 : decode cX4_whatIs 111 = .ok (.ifCond .ne 7, 3) := dk_154 0 7 (dk_at dksX4_whatIs_4 18 rfl rfl)
theorem dX4_whatIs_114 : decode cX4_whatIs 114 = .ok (.iconst 1, 1) := dk_4 (dk_at dksX4_whatIs_4 21 rfl rfl)
theorem dX4_whatIs_115 : decode cX4_whatIs 115 = .ok (.goto 4, 3) := dk_167 0 4 (dk_at dksX4_whatIs_5 0 rfl rfl)
theorem dX4_whatIs_118 : decode cX4_whatIs 118 = .ok (.iconst 0, 1) := dk_3 (dk_at dksX4_whatIs_5 3 rfl rfl)
theorem dX4_whatIs_119 : decode cX4_whatIs 119 = .ok (.istore 9, 2) := dk_54 9 (dk_at dksX4_whatIs_5 4 rfl rfl)
theorem dX4_whatIs_121 : decode cX4_whatIs 121 = .ok (.iload 5, 2) := dk_21 5 (dk_at dksX4_whatIs_5 6 rfl rfl)
theorem dX4_whatIs_123 : decode cX4_whatIs 123 = .ok (.ifCond .eq 22, 3) := dk_153 0 22 (dk_at dksX4_whatIs_5 8 rfl rfl)
theorem dX4_whatIs_126 : decode cX4_whatIs 126 = .ok (.iload 6, 2) := dk_21 6 (dk_at dksX4_whatIs_5 11 rfl rfl)
theorem dX4_whatIs_128 : decode cX4_whatIs 128 = .ok (.ifCond .ne 17, 3) := dk_154 0 17 (dk_at dksX4_whatIs_5 13 rfl rfl)
theorem dX4_whatIs_131 : decode cX4_whatIs 131 = .ok (.iload 7, 2) := dk_21 7 (dk_at dksX4_whatIs_5 16 rfl rfl)
theorem dX4_whatIs_133 : decode cX4_whatIs 133 = .ok (.ifCond .ne 12, 3) := dk_154 0 12 (dk_at dksX4_whatIs_5 18 rfl rfl)
theorem dX4_whatIs_136 : decode cX4_whatIs 136 = .ok (.iload 8, 2) := dk_21 8 (dk_at dksX4_whatIs_5 21 rfl rfl)
theorem dX4_whatIs_138 : decode cX4_whatIs 138 = .ok (.ifCond .ne 7, 3) := dk_154 0 7 (dk_at dksX4_whatIs_6 0 rfl rfl)
theorem dX4_whatIs_141 : decode cX4_whatIs 141 = .ok (.iconst 1, 1) := dk_4 (dk_at dksX4_whatIs_6 3 rfl rfl)
theorem dX4_whatIs_142 : decode cX4_whatIs 142 = .ok (.goto 4, 3) := dk_167 0 4 (dk_at dksX4_whatIs_6 4 rfl rfl)
theorem dX4_whatIs_145 : decode cX4_whatIs 145 = .ok (.iconst 0, 1) := dk_3 (dk_at dksX4_whatIs_6 7 rfl rfl)
theorem dX4_whatIs_146 : decode cX4_whatIs 146 = .ok (.istore 10, 2) := dk_54 10 (dk_at dksX4_whatIs_6 8 rfl rfl)
theorem dX4_whatIs_148 : decode cX4_whatIs 148 = .ok (.iload_n 3, 1) := dk_29 (dk_at dksX4_whatIs_6 10 rfl rfl)
theorem dX4_whatIs_149 : decode cX4_whatIs 149 = .ok (.ifCond .eq 7, 3) := dk_153 0 7 (dk_at dksX4_whatIs_6 11 rfl rfl)
theorem dX4_whatIs_152 : decode cX4_whatIs 152 = .ok (.iconst 1, 1) := dk_4 (dk_at dksX4_whatIs_6 14 rfl rfl)
theorem dX4_whatIs_153 : decode cX4_whatIs 153 = .ok (.goto 4, 3) := dk_167 0 4 (dk_at dksX4_whatIs_6 15 rfl rfl)
theorem dX4_whatIs_156 : decode cX4_whatIs 156 = .ok (.iconst 0, 1) := dk_3 (dk_at dksX4_whatIs_6 18 rfl rfl)
theorem dX4_whatIs_157 : decode cX4_whatIs 157 = .ok (.iload 5, 2) := dk_21 5 (dk_at dksX4_whatIs_6 19 rfl rfl)
theorem dX4_whatIs_159 : decode cX4_whatIs 159 = .ok (.ifCond .eq 7, 3) := dk_153 0 7 (dk_at dksX4_whatIs_6 21 rfl rfl)
theorem dX4_whatIs_162 : decode cX4_whatIs 162 = .ok (.iconst 2, 1) := dk_5 (dk_at dksX4_whatIs_7 0 rfl rfl)
theorem dX4_whatIs_163 : decode cX4_whatIs 163 = .ok (.goto 4, 3) := dk_167 0 4 (dk_at dksX4_whatIs_7 1 rfl rfl)
theorem dX4_whatIs_166 : decode cX4_whatIs 166 = .ok (.iconst 0, 1) := dk_3 (dk_at dksX4_whatIs_7 4 rfl rfl)
theorem dX4_whatIs_167 : decode cX4_whatIs 167 = .ok (.ior, 1) := dk_128 (dk_at dksX4_whatIs_7 5 rfl rfl)
theorem dX4_whatIs_168 : decode cX4_whatIs 168 = .ok (.iload 6, 2) := dk_21 6 (dk_at dksX4_whatIs_7 6 rfl rfl)
theorem dX4_whatIs_170 : decode cX4_whatIs 170 = .ok (.ifCond .eq 7, 3) := dk_153 0 7 (dk_at dksX4_whatIs_7 8 rfl rfl)
theorem dX4_whatIs_173 : decode cX4_whatIs 173 = .ok (.iconst 4, 1) := dk_7 (dk_at dksX4_whatIs_7 11 rfl rfl)
theorem dX4_whatIs_174 : decode cX4_whatIs 174 = .ok (.goto 4, 3) := dk_167 0 4 (dk_at dksX4_whatIs_7 12 rfl rfl)
theorem dX4_whatIs_177 : decode cX4_whatIs 177 = .ok (.iconst 0, 1) := dk_3 (dk_at dksX4_whatIs_7 15 rfl rfl)
theorem dX4_whatIs_178 : decode cX4_whatIs 178 = .ok (.ior, 1) := dk_128 (dk_at dksX4_whatIs_7 16 rfl rfl)
theorem dX4_whatIs_179 : decode cX4_whatIs 179 = .ok (.iload 7, 2) := dk_21 7 (dk_at dksX4_whatIs_7 17 rfl rfl)
theorem dX4_whatIs_181 : decode cX4_whatIs 181 = .ok (.ifCond .eq 8, 3) := dk_153 0 8 (dk_at dksX4_whatIs_7 19 rfl rfl)
theorem dX4_whatIs_184 : decode cX4_whatIs 184 = .ok (.bipush 8, 2) := dk_16 8 (dk_at dksX4_whatIs_7 22 rfl rfl)
theorem dX4_whatIs_186 : decode cX4_whatIs 186 = .ok (.goto 4, 3) := dk_167 0 4 (dk_at dksX4_whatIs_8 0 rfl rfl)
theorem dX4_whatIs_189 : decode cX4_whatIs 189 = .ok (.iconst 0, 1) := dk_3 (dk_at dksX4_whatIs_8 3 rfl rfl)
theorem dX4_whatIs_190 : decode cX4_whatIs 190 = .ok (.ior, 1) := dk_128 (dk_at dksX4_whatIs_8 4 rfl rfl)
theorem dX4_whatIs_191 : decode cX4_whatIs 191 = .ok (.iload 8, 2) := dk_21 8 (dk_at dksX4_whatIs_8 5 rfl rfl)
theorem dX4_whatIs_193 : decode cX4_whatIs 193 = .ok (.ifCond .eq 8, 3) := dk_153 0 8 (dk_at dksX4_whatIs_8 7 rfl rfl)
theorem dX4_whatIs_196 : decode cX4_whatIs 196 = .ok (.bipush 16, 2) := dk_16 16 (dk_at dksX4_whatIs_8 10 rfl rfl)
theorem dX4_whatIs_198 : decode cX4_whatIs 198 = .ok (.goto 4, 3) := dk_167 0 4 (dk_at dksX4_whatIs_8 12 rfl rfl)
theorem dX4_whatIs_201 : decode cX4_whatIs 201 = .ok (.iconst 0, 1) := dk_3 (dk_at dksX4_whatIs_8 15 rfl rfl)
theorem dX4_whatIs_202 : decode cX4_whatIs 202 = .ok (.ior, 1) := dk_128 (dk_at dksX4_whatIs_8 16 rfl rfl)
theorem dX4_whatIs_203 : decode cX4_whatIs 203 = .ok (.iload 9, 2) := dk_21 9 (dk_at dksX4_whatIs_8 17 rfl rfl)
theorem dX4_whatIs_205 : decode cX4_whatIs 205 = .ok (.ifCond .eq 8, 3) := dk_153 0 8 (dk_at dksX4_whatIs_8 19 rfl rfl)
theorem dX4_whatIs_208 : decode cX4_whatIs 208 = .ok (.bipush 32, 2) := dk_16 32 (dk_at dksX4_whatIs_8 22 rfl rfl)
theorem dX4_whatIs_210 : decode cX4_whatIs 210 = .ok (.goto 4, 3) := dk_167 0 4 (dk_at dksX4_whatIs_9 0 rfl rfl)
theorem dX4_whatIs_213 : decode cX4_whatIs 213 = .ok (.iconst 0, 1) := dk_3 (dk_at dksX4_whatIs_9 3 rfl rfl)
theorem dX4_whatIs_214 : decode cX4_whatIs 214 = .ok (.ior, 1) := dk_128 (dk_at dksX4_whatIs_9 4 rfl rfl)
theorem dX4_whatIs_215 : decode cX4_whatIs 215 = .ok (.iload 10, 2) := dk_21 10 (dk_at dksX4_whatIs_9 5 rfl rfl)
theorem dX4_whatIs_217 : decode cX4_whatIs 217 = .ok (.ifCond .eq 8, 3) := dk_153 0 8 (dk_at dksX4_whatIs_9 7 rfl rfl)
theorem dX4_whatIs_220 : decode cX4_whatIs 220 = .ok (.bipush 64, 2) := dk_16 64 (dk_at dksX4_whatIs_9 10 rfl rfl)
theorem dX4_whatIs_222 : decode cX4_whatIs 222 = .ok (.goto 4, 3) := dk_167 0 4 (dk_at dksX4_whatIs_9 12 rfl rfl)
theorem dX4_whatIs_225 : decode cX4_whatIs 225 = .ok (.iconst 0, 1) := dk_3 (dk_at dksX4_whatIs_9 15 rfl rfl)
theorem dX4_whatIs_226 : decode cX4_whatIs 226 = .ok (.ior, 1) := dk_128 (dk_at dksX4_whatIs_9 16 rfl rfl)
theorem dX4_whatIs_227 : decode cX4_whatIs 227 = .ok (.ireturn, 1) := dk_172 (dk_at dksX4_whatIs_9 17 rfl rfl)
abbrev cX4_isRight : ByteArray := prog_18_method_56_code
def yX4_isRight : MethodName := ⟨RX4, "isRight", "(I)Z"⟩
def dkwX4_isRight_1 : List UInt8 := [3, 172]
abbrev dktX4_isRight_1 : List UInt8 := dkwX4_isRight_1 ++ []
def dkwX4_isRight_0 : List UInt8 := [42, 180, 0, 63, 27, 46, 42, 180, 0, 26, 42, 180, 0, 60, 27, 46, 46, 160, 0, 7, 4, 167, 0, 4]
abbrev dktX4_isRight_0 : List UInt8 := dkwX4_isRight_0 ++ dktX4_isRight_1
theorem dksX4_isRight_0 : cX4_isRight.data.toList.drop 0 = dktX4_isRight_0 := by decide +kernel
theorem dksX4_isRight_1 : cX4_isRight.data.toList.drop 24 = dktX4_isRight_1 := dk_seg dksX4_isRight_0 24 rfl rfl
theorem dX4_isRight_0 : decode cX4_isRight 0 = .ok (.aload_n 0, 1) := dk_42 (dk_at dksX4_isRight_0 0 rfl rfl)
theorem dX4_isRight_1 : decode cX4_isRight 1 = .ok (.getfield 63, 3) := dk_180 0 63 (dk_at dksX4_isRight_0 1 rfl rfl)
theorem dX4_isRight_4 : decode cX4_isRight 4 = .ok (.iload_n 1, 1) := dk_27 (dk_at dksX4_isRight_0 4 rfl rfl)
theorem dX4_isRight_5 : decode cX4_isRight 5 = .ok (.iaload, 1) := dk_46 (dk_at dksX4_isRight_0 5 rfl rfl)
theorem dX4_isRight_6 : decode cX4_isRight 6 = .ok (.aload_n 0, 1) := dk_42 (dk_at dksX4_isRight_0 6 rfl rfl)
theorem dX4_isRight_7 : decode cX4_isRight 7 = .ok (.getfield 26, 3) := dk_180 0 26 (dk_at dksX4_isRight_0 7 rfl rfl)
theorem dX4_isRight_10 : decode cX4_isRight 10 = .ok (.aload_n 0, 1) := dk_42 (dk_at dksX4_isRight_0 10 rfl rfl)
theorem dX4_isRight_11 : decode cX4_isRight 11 = .ok (.getfield 60, 3) := dk_180 0 60 (dk_at dksX4_isRight_0 11 rfl rfl)
theorem dX4_isRight_14 : decode cX4_isRight 14 = .ok (.iload_n 1, 1) := dk_27 (dk_at dksX4_isRight_0 14 rfl rfl)
theorem dX4_isRight_15 : decode cX4_isRight 15 = .ok (.iaload, 1) := dk_46 (dk_at dksX4_isRight_0 15 rfl rfl)
theorem dX4_isRight_16 : decode cX4_isRight 16 = .ok (.iaload, 1) := dk_46 (dk_at dksX4_isRight_0 16 rfl rfl)
theorem dX4_isRight_17 : decode cX4_isRight 17 = .ok (.if_icmp .ne 7, 3) := dk_160 0 7 (dk_at dksX4_isRight_0 17 rfl rfl)
theorem dX4_isRight_20 : decode cX4_isRight 20 = .ok (.iconst 1, 1) := dk_4 (dk_at dksX4_isRight_0 20 rfl rfl)
theorem dX4_isRight_21 : decode cX4_isRight 21 = .ok (.goto 4, 3) := dk_167 0 4 (dk_at dksX4_isRight_0 21 rfl rfl)
theorem dX4_isRight_24 : decode cX4_isRight 24 = .ok (.iconst 0, 1) := dk_3 (dk_at dksX4_isRight_1 0 rfl rfl)
theorem dX4_isRight_25 : decode cX4_isRight 25 = .ok (.ireturn, 1) := dk_172 (dk_at dksX4_isRight_1 1 rfl rfl)
abbrev cX4_had : ByteArray := prog_18_method_60_code
def yX4_had : MethodName := ⟨RX4, "had", "(II)Z"⟩
def dkwX4_had_0 : List UInt8 := [26, 155, 0, 12, 26, 27, 163, 0, 7, 4, 167, 0, 4, 3, 172]
abbrev dktX4_had_0 : List UInt8 := dkwX4_had_0 ++ []
theorem dksX4_had_0 : cX4_had.data.toList.drop 0 = dktX4_had_0 := by decide +kernel
theorem dX4_had_0 : decode cX4_had 0 = .ok (.iload_n 0, 1) := dk_26 (dk_at dksX4_had_0 0 rfl rfl)
theorem dX4_had_1 : decode cX4_had 1 = .ok (.ifCond .lt 12, 3) := dk_155 0 12 (dk_at dksX4_had_0 1 rfl rfl)
theorem dX4_had_4 : decode cX4_had 4 = .ok (.iload_n 0, 1) := dk_26 (dk_at dksX4_had_0 4 rfl rfl)
theorem dX4_had_5 : decode cX4_had 5 = .ok (.iload_n 1, 1) := dk_27 (dk_at dksX4_had_0 5 rfl rfl)
theorem dX4_had_6 : decode cX4_had 6 = .ok (.if_icmp .gt 7, 3) := dk_163 0 7 (dk_at dksX4_had_0 6 rfl rfl)
theorem dX4_had_9 : decode cX4_had 9 = .ok (.iconst 1, 1) := dk_4 (dk_at dksX4_had_0 9 rfl rfl)
theorem dX4_had_10 : decode cX4_had 10 = .ok (.goto 4, 3) := dk_167 0 4 (dk_at dksX4_had_0 10 rfl rfl)
theorem dX4_had_13 : decode cX4_had 13 = .ok (.iconst 0, 1) := dk_3 (dk_at dksX4_had_0 13 rfl rfl)
theorem dX4_had_14 : decode cX4_had 14 = .ok (.ireturn, 1) := dk_172 (dk_at dksX4_had_0 14 rfl rfl)
abbrev cX4_isFirst : ByteArray := prog_18_method_58_code
def yX4_isFirst : MethodName := ⟨RX4, "isFirst", "(I)Z"⟩
def dkwX4_isFirst_1 : List UInt8 := [153, 0, 5, 3, 172, 132, 2, 1, 167, 255, 226, 4, 172]
abbrev dktX4_isFirst_1 : List UInt8 := dkwX4_isFirst_1 ++ []
def dkwX4_isFirst_0 : List UInt8 := [3, 61, 28, 27, 162, 0, 31, 42, 28, 42, 180, 0, 54, 27, 46, 42, 180, 0, 60, 27, 46, 182, 1, 75]
abbrev dktX4_isFirst_0 : List UInt8 := dkwX4_isFirst_0 ++ dktX4_isFirst_1
theorem dksX4_isFirst_0 : cX4_isFirst.data.toList.drop 0 = dktX4_isFirst_0 := by decide +kernel
theorem dksX4_isFirst_1 : cX4_isFirst.data.toList.drop 24 = dktX4_isFirst_1 := dk_seg dksX4_isFirst_0 24 rfl rfl
theorem dX4_isFirst_0 : decode cX4_isFirst 0 = .ok (.iconst 0, 1) := dk_3 (dk_at dksX4_isFirst_0 0 rfl rfl)
theorem dX4_isFirst_1 : decode cX4_isFirst 1 = .ok (.istore_n 2, 1) := dk_61 (dk_at dksX4_isFirst_0 1 rfl rfl)
theorem dX4_isFirst_2 : decode cX4_isFirst 2 = .ok (.iload_n 2, 1) := dk_28 (dk_at dksX4_isFirst_0 2 rfl rfl)
theorem dX4_isFirst_3 : decode cX4_isFirst 3 = .ok (.iload_n 1, 1) := dk_27 (dk_at dksX4_isFirst_0 3 rfl rfl)
theorem dX4_isFirst_4 : decode cX4_isFirst 4 = .ok (.if_icmp .ge 31, 3) := dk_162 0 31 (dk_at dksX4_isFirst_0 4 rfl rfl)
theorem dX4_isFirst_7 : decode cX4_isFirst 7 = .ok (.aload_n 0, 1) := dk_42 (dk_at dksX4_isFirst_0 7 rfl rfl)
theorem dX4_isFirst_8 : decode cX4_isFirst 8 = .ok (.iload_n 2, 1) := dk_28 (dk_at dksX4_isFirst_0 8 rfl rfl)
theorem dX4_isFirst_9 : decode cX4_isFirst 9 = .ok (.aload_n 0, 1) := dk_42 (dk_at dksX4_isFirst_0 9 rfl rfl)
theorem dX4_isFirst_10 : decode cX4_isFirst 10 = .ok (.getfield 54, 3) := dk_180 0 54 (dk_at dksX4_isFirst_0 10 rfl rfl)
theorem dX4_isFirst_13 : decode cX4_isFirst 13 = .ok (.iload_n 1, 1) := dk_27 (dk_at dksX4_isFirst_0 13 rfl rfl)
theorem dX4_isFirst_14 : decode cX4_isFirst 14 = .ok (.iaload, 1) := dk_46 (dk_at dksX4_isFirst_0 14 rfl rfl)
theorem dX4_isFirst_15 : decode cX4_isFirst 15 = .ok (.aload_n 0, 1) := dk_42 (dk_at dksX4_isFirst_0 15 rfl rfl)
theorem dX4_isFirst_16 : decode cX4_isFirst 16 = .ok (.getfield 60, 3) := dk_180 0 60 (dk_at dksX4_isFirst_0 16 rfl rfl)
theorem dX4_isFirst_19 : decode cX4_isFirst 19 = .ok (.iload_n 1, 1) := dk_27 (dk_at dksX4_isFirst_0 19 rfl rfl)
theorem dX4_isFirst_20 : decode cX4_isFirst 20 = .ok (.iaload, 1) := dk_46 (dk_at dksX4_isFirst_0 20 rfl rfl)
theorem dX4_isFirst_21 : decode cX4_isFirst 21 = .ok (.invokevirtual 331, 3) := dk_182 1 75 (dk_at dksX4_isFirst_0 21 rfl rfl)
theorem dX4_isFirst_24 : decode cX4_isFirst 24 = .ok (.ifCond .eq 5, 3) := dk_153 0 5 (dk_at dksX4_isFirst_1 0 rfl rfl)
theorem dX4_isFirst_27 : decode cX4_isFirst 27 = .ok (.iconst 0, 1) := dk_3 (dk_at dksX4_isFirst_1 3 rfl rfl)
theorem dX4_isFirst_28 : decode cX4_isFirst 28 = .ok (.ireturn, 1) := dk_172 (dk_at dksX4_isFirst_1 4 rfl rfl)
theorem dX4_isFirst_29 : decode cX4_isFirst 29 = .ok (.iinc 2 1, 3) := dk_132 2 1 (dk_at dksX4_isFirst_1 5 rfl rfl)
theorem dX4_isFirst_32 : decode cX4_isFirst 32 = .ok (.goto (-30), 3) := dk_167 255 226 (dk_at dksX4_isFirst_1 8 rfl rfl)
theorem dX4_isFirst_35 : decode cX4_isFirst 35 = .ok (.iconst 1, 1) := dk_4 (dk_at dksX4_isFirst_1 11 rfl rfl)
theorem dX4_isFirst_36 : decode cX4_isFirst 36 = .ok (.ireturn, 1) := dk_172 (dk_at dksX4_isFirst_1 12 rfl rfl)
abbrev cX4_says : ByteArray := prog_18_method_49_code
def yX4_says : MethodName := ⟨RX4, "says", "(III)Z"⟩
def dkwX4_says_1 : List UInt8 := [29, 160, 0, 7, 4, 167, 0, 4, 3, 172]
abbrev dktX4_says_1 : List UInt8 := dkwX4_says_1 ++ []
def dkwX4_says_0 : List UInt8 := [42, 27, 182, 1, 65, 153, 0, 27, 42, 180, 0, 54, 27, 46, 28, 160, 0, 17, 42, 180, 0, 60, 27, 46]
abbrev dktX4_says_0 : List UInt8 := dkwX4_says_0 ++ dktX4_says_1
theorem dksX4_says_0 : cX4_says.data.toList.drop 0 = dktX4_says_0 := by decide +kernel
theorem dksX4_says_1 : cX4_says.data.toList.drop 24 = dktX4_says_1 := dk_seg dksX4_says_0 24 rfl rfl
theorem dX4_says_0 : decode cX4_says 0 = .ok (.aload_n 0, 1) := dk_42 (dk_at dksX4_says_0 0 rfl rfl)
theorem dX4_says_1 : decode cX4_says 1 = .ok (.iload_n 1, 1) := dk_27 (dk_at dksX4_says_0 1 rfl rfl)
theorem dX4_says_2 : decode cX4_says 2 = .ok (.invokevirtual 321, 3) := dk_182 1 65 (dk_at dksX4_says_0 2 rfl rfl)
theorem dX4_says_5 : decode cX4_says 5 = .ok (.ifCond .eq 27, 3) := dk_153 0 27 (dk_at dksX4_says_0 5 rfl rfl)
theorem dX4_says_8 : decode cX4_says 8 = .ok (.aload_n 0, 1) := dk_42 (dk_at dksX4_says_0 8 rfl rfl)
theorem dX4_says_9 : decode cX4_says 9 = .ok (.getfield 54, 3) := dk_180 0 54 (dk_at dksX4_says_0 9 rfl rfl)
theorem dX4_says_12 : decode cX4_says 12 = .ok (.iload_n 1, 1) := dk_27 (dk_at dksX4_says_0 12 rfl rfl)
theorem dX4_says_13 : decode cX4_says 13 = .ok (.iaload, 1) := dk_46 (dk_at dksX4_says_0 13 rfl rfl)
theorem dX4_says_14 : decode cX4_says 14 = .ok (.iload_n 2, 1) := dk_28 (dk_at dksX4_says_0 14 rfl rfl)
theorem dX4_says_15 : decode cX4_says 15 = .ok (.if_icmp .ne 17, 3) := dk_160 0 17 (dk_at dksX4_says_0 15 rfl rfl)
theorem dX4_says_18 : decode cX4_says 18 = .ok (.aload_n 0, 1) := dk_42 (dk_at dksX4_says_0 18 rfl rfl)
theorem dX4_says_19 : decode cX4_says 19 = .ok (.getfield 60, 3) := dk_180 0 60 (dk_at dksX4_says_0 19 rfl rfl)
theorem dX4_says_22 : decode cX4_says 22 = .ok (.iload_n 1, 1) := dk_27 (dk_at dksX4_says_0 22 rfl rfl)
theorem dX4_says_23 : decode cX4_says 23 = .ok (.iaload, 1) := dk_46 (dk_at dksX4_says_0 23 rfl rfl)
theorem dX4_says_24 : decode cX4_says 24 = .ok (.iload_n 3, 1) := dk_29 (dk_at dksX4_says_1 0 rfl rfl)
theorem dX4_says_25 : decode cX4_says 25 = .ok (.if_icmp .ne 7, 3) := dk_160 0 7 (dk_at dksX4_says_1 1 rfl rfl)
theorem dX4_says_28 : decode cX4_says 28 = .ok (.iconst 1, 1) := dk_4 (dk_at dksX4_says_1 4 rfl rfl)
theorem dX4_says_29 : decode cX4_says 29 = .ok (.goto 4, 3) := dk_167 0 4 (dk_at dksX4_says_1 5 rfl rfl)
theorem dX4_says_32 : decode cX4_says 32 = .ok (.iconst 0, 1) := dk_3 (dk_at dksX4_says_1 8 rfl rfl)
theorem dX4_says_33 : decode cX4_says 33 = .ok (.ireturn, 1) := dk_172 (dk_at dksX4_says_1 9 rfl rfl)
abbrev cX4_ledBy : ByteArray := prog_18_method_59_code
def yX4_ledBy : MethodName := ⟨RX4, "ledBy", "(I)I"⟩
def dkwX4_ledBy_2 : List UInt8 := [27, 46, 160, 0, 7, 29, 167, 0, 4, 28, 61, 132, 3, 1, 167, 255, 198, 28, 172]
abbrev dktX4_ledBy_2 : List UInt8 := dkwX4_ledBy_2 ++ []
def dkwX4_ledBy_1 : List UInt8 := [180, 0, 60, 29, 46, 42, 180, 0, 60, 27, 46, 160, 0, 22, 42, 180, 0, 63, 29, 46, 42, 180, 0, 63]
abbrev dktX4_ledBy_1 : List UInt8 := dkwX4_ledBy_1 ++ dktX4_ledBy_2
def dkwX4_ledBy_0 : List UInt8 := [2, 61, 3, 62, 29, 27, 162, 0, 59, 42, 29, 42, 180, 0, 54, 27, 46, 182, 1, 78, 153, 0, 37, 42]
abbrev dktX4_ledBy_0 : List UInt8 := dkwX4_ledBy_0 ++ dktX4_ledBy_1
theorem dksX4_ledBy_0 : cX4_ledBy.data.toList.drop 0 = dktX4_ledBy_0 := by decide +kernel
theorem dksX4_ledBy_1 : cX4_ledBy.data.toList.drop 24 = dktX4_ledBy_1 := dk_seg dksX4_ledBy_0 24 rfl rfl
theorem dksX4_ledBy_2 : cX4_ledBy.data.toList.drop 48 = dktX4_ledBy_2 := dk_seg dksX4_ledBy_1 24 rfl rfl
theorem dX4_ledBy_0 : decode cX4_ledBy 0 = .ok (.iconst (-1), 1) := dk_2 (dk_at dksX4_ledBy_0 0 rfl rfl)
theorem dX4_ledBy_1 : decode cX4_ledBy 1 = .ok (.istore_n 2, 1) := dk_61 (dk_at dksX4_ledBy_0 1 rfl rfl)
theorem dX4_ledBy_2 : decode cX4_ledBy 2 = .ok (.iconst 0, 1) := dk_3 (dk_at dksX4_ledBy_0 2 rfl rfl)
theorem dX4_ledBy_3 : decode cX4_ledBy 3 = .ok (.istore_n 3, 1) := dk_62 (dk_at dksX4_ledBy_0 3 rfl rfl)
theorem dX4_ledBy_4 : decode cX4_ledBy 4 = .ok (.iload_n 3, 1) := dk_29 (dk_at dksX4_ledBy_0 4 rfl rfl)
theorem dX4_ledBy_5 : decode cX4_ledBy 5 = .ok (.iload_n 1, 1) := dk_27 (dk_at dksX4_ledBy_0 5 rfl rfl)
theorem dX4_ledBy_6 : decode cX4_ledBy 6 = .ok (.if_icmp .ge 59, 3) := dk_162 0 59 (dk_at dksX4_ledBy_0 6 rfl rfl)
theorem dX4_ledBy_9 : decode cX4_ledBy 9 = .ok (.aload_n 0, 1) := dk_42 (dk_at dksX4_ledBy_0 9 rfl rfl)
theorem dX4_ledBy_10 : decode cX4_ledBy 10 = .ok (.iload_n 3, 1) := dk_29 (dk_at dksX4_ledBy_0 10 rfl rfl)
theorem dX4_ledBy_11 : decode cX4_ledBy 11 = .ok (.aload_n 0, 1) := dk_42 (dk_at dksX4_ledBy_0 11 rfl rfl)
theorem dX4_ledBy_12 : decode cX4_ledBy 12 = .ok (.getfield 54, 3) := dk_180 0 54 (dk_at dksX4_ledBy_0 12 rfl rfl)
theorem dX4_ledBy_15 : decode cX4_ledBy 15 = .ok (.iload_n 1, 1) := dk_27 (dk_at dksX4_ledBy_0 15 rfl rfl)
theorem dX4_ledBy_16 : decode cX4_ledBy 16 = .ok (.iaload, 1) := dk_46 (dk_at dksX4_ledBy_0 16 rfl rfl)
theorem dX4_ledBy_17 : decode cX4_ledBy 17 = .ok (.invokevirtual 334, 3) := dk_182 1 78 (dk_at dksX4_ledBy_0 17 rfl rfl)
theorem dX4_ledBy_20 : decode cX4_ledBy 20 = .ok (.ifCond .eq 37, 3) := dk_153 0 37 (dk_at dksX4_ledBy_0 20 rfl rfl)
theorem dX4_ledBy_23 : decode cX4_ledBy 23 = .ok (.aload_n 0, 1) := dk_42 (dk_at dksX4_ledBy_0 23 rfl rfl)
theorem dX4_ledBy_24 : decode cX4_ledBy 24 = .ok (.getfield 60, 3) := dk_180 0 60 (dk_at dksX4_ledBy_1 0 rfl rfl)
theorem dX4_ledBy_27 : decode cX4_ledBy 27 = .ok (.iload_n 3, 1) := dk_29 (dk_at dksX4_ledBy_1 3 rfl rfl)
theorem dX4_ledBy_28 : decode cX4_ledBy 28 = .ok (.iaload, 1) := dk_46 (dk_at dksX4_ledBy_1 4 rfl rfl)
theorem dX4_ledBy_29 : decode cX4_ledBy 29 = .ok (.aload_n 0, 1) := dk_42 (dk_at dksX4_ledBy_1 5 rfl rfl)
theorem dX4_ledBy_30 : decode cX4_ledBy 30 = .ok (.getfield 60, 3) := dk_180 0 60 (dk_at dksX4_ledBy_1 6 rfl rfl)
theorem dX4_ledBy_33 : decode cX4_ledBy 33 = .ok (.iload_n 1, 1) := dk_27 (dk_at dksX4_ledBy_1 9 rfl rfl)
theorem dX4_ledBy_34 : decode cX4_ledBy 34 = .ok (.iaload, 1) := dk_46 (dk_at dksX4_ledBy_1 10 rfl rfl)
theorem dX4_ledBy_35 : decode cX4_ledBy 35 = .ok (.if_icmp .ne 22, 3) := dk_160 0 22 (dk_at dksX4_ledBy_1 11 rfl rfl)
theorem dX4_ledBy_38 : decode cX4_ledBy 38 = .ok (.aload_n 0, 1) := dk_42 (dk_at dksX4_ledBy_1 14 rfl rfl)
theorem dX4_ledBy_39 : decode cX4_ledBy 39 = .ok (.getfield 63, 3) := dk_180 0 63 (dk_at dksX4_ledBy_1 15 rfl rfl)
theorem dX4_ledBy_42 : decode cX4_ledBy 42 = .ok (.iload_n 3, 1) := dk_29 (dk_at dksX4_ledBy_1 18 rfl rfl)
theorem dX4_ledBy_43 : decode cX4_ledBy 43 = .ok (.iaload, 1) := dk_46 (dk_at dksX4_ledBy_1 19 rfl rfl)
theorem dX4_ledBy_44 : decode cX4_ledBy 44 = .ok (.aload_n 0, 1) := dk_42 (dk_at dksX4_ledBy_1 20 rfl rfl)
theorem dX4_ledBy_45 : decode cX4_ledBy 45 = .ok (.getfield 63, 3) := dk_180 0 63 (dk_at dksX4_ledBy_1 21 rfl rfl)
theorem dX4_ledBy_48 : decode cX4_ledBy 48 = .ok (.iload_n 1, 1) := dk_27 (dk_at dksX4_ledBy_2 0 rfl rfl)
theorem dX4_ledBy_49 : decode cX4_ledBy 49 = .ok (.iaload, 1) := dk_46 (dk_at dksX4_ledBy_2 1 rfl rfl)
theorem dX4_ledBy_50 : decode cX4_ledBy 50 = .ok (.if_icmp .ne 7, 3) := dk_160 0 7 (dk_at dksX4_ledBy_2 2 rfl rfl)
theorem dX4_ledBy_53 : decode cX4_ledBy 53 = .ok (.iload_n 3, 1) := dk_29 (dk_at dksX4_ledBy_2 5 rfl rfl)
theorem dX4_ledBy_54 : decode cX4_ledBy 54 = .ok (.goto 4, 3) := dk_167 0 4 (dk_at dksX4_ledBy_2 6 rfl rfl)
theorem dX4_ledBy_57 : decode cX4_ledBy 57 = .ok (.iload_n 2, 1) := dk_28 (dk_at dksX4_ledBy_2 9 rfl rfl)
theorem dX4_ledBy_58 : decode cX4_ledBy 58 = .ok (.istore_n 2, 1) := dk_61 (dk_at dksX4_ledBy_2 10 rfl rfl)
theorem dX4_ledBy_59 : decode cX4_ledBy 59 = .ok (.iinc 3 1, 3) := dk_132 3 1 (dk_at dksX4_ledBy_2 11 rfl rfl)
theorem dX4_ledBy_62 : decode cX4_ledBy 62 = .ok (.goto (-58), 3) := dk_167 255 198 (dk_at dksX4_ledBy_2 14 rfl rfl)
theorem dX4_ledBy_65 : decode cX4_ledBy 65 = .ok (.iload_n 2, 1) := dk_28 (dk_at dksX4_ledBy_2 17 rfl rfl)
theorem dX4_ledBy_66 : decode cX4_ledBy 66 = .ok (.ireturn, 1) := dk_172 (dk_at dksX4_ledBy_2 18 rfl rfl)
abbrev cX4_asks : ByteArray := prog_18_method_50_code
def yX4_asks : MethodName := ⟨RX4, "asks", "(II)Z"⟩
def dkwX4_asks_1 : List UInt8 := [160, 0, 7, 4, 167, 0, 4, 3, 172]
abbrev dktX4_asks_1 : List UInt8 := dkwX4_asks_1 ++ []
def dkwX4_asks_0 : List UInt8 := [42, 27, 182, 1, 62, 153, 0, 26, 42, 180, 0, 50, 27, 51, 154, 0, 17, 42, 180, 0, 54, 27, 46, 28]
abbrev dktX4_asks_0 : List UInt8 := dkwX4_asks_0 ++ dktX4_asks_1
theorem dksX4_asks_0 : cX4_asks.data.toList.drop 0 = dktX4_asks_0 := by decide +kernel
theorem dksX4_asks_1 : cX4_asks.data.toList.drop 24 = dktX4_asks_1 := dk_seg dksX4_asks_0 24 rfl rfl
theorem dX4_asks_0 : decode cX4_asks 0 = .ok (.aload_n 0, 1) := dk_42 (dk_at dksX4_asks_0 0 rfl rfl)
theorem dX4_asks_1 : decode cX4_asks 1 = .ok (.iload_n 1, 1) := dk_27 (dk_at dksX4_asks_0 1 rfl rfl)
theorem dX4_asks_2 : decode cX4_asks 2 = .ok (.invokevirtual 318, 3) := dk_182 1 62 (dk_at dksX4_asks_0 2 rfl rfl)
theorem dX4_asks_5 : decode cX4_asks 5 = .ok (.ifCond .eq 26, 3) := dk_153 0 26 (dk_at dksX4_asks_0 5 rfl rfl)
theorem dX4_asks_8 : decode cX4_asks 8 = .ok (.aload_n 0, 1) := dk_42 (dk_at dksX4_asks_0 8 rfl rfl)
theorem dX4_asks_9 : decode cX4_asks 9 = .ok (.getfield 50, 3) := dk_180 0 50 (dk_at dksX4_asks_0 9 rfl rfl)
theorem dX4_asks_12 : decode cX4_asks 12 = .ok (.iload_n 1, 1) := dk_27 (dk_at dksX4_asks_0 12 rfl rfl)
theorem dX4_asks_13 : decode cX4_asks 13 = .ok (.baload, 1) := dk_51 (dk_at dksX4_asks_0 13 rfl rfl)
theorem dX4_asks_14 : decode cX4_asks 14 = .ok (.ifCond .ne 17, 3) := dk_154 0 17 (dk_at dksX4_asks_0 14 rfl rfl)
theorem dX4_asks_17 : decode cX4_asks 17 = .ok (.aload_n 0, 1) := dk_42 (dk_at dksX4_asks_0 17 rfl rfl)
theorem dX4_asks_18 : decode cX4_asks 18 = .ok (.getfield 54, 3) := dk_180 0 54 (dk_at dksX4_asks_0 18 rfl rfl)
theorem dX4_asks_21 : decode cX4_asks 21 = .ok (.iload_n 1, 1) := dk_27 (dk_at dksX4_asks_0 21 rfl rfl)
theorem dX4_asks_22 : decode cX4_asks 22 = .ok (.iaload, 1) := dk_46 (dk_at dksX4_asks_0 22 rfl rfl)
theorem dX4_asks_23 : decode cX4_asks 23 = .ok (.iload_n 2, 1) := dk_28 (dk_at dksX4_asks_0 23 rfl rfl)
theorem dX4_asks_24 : decode cX4_asks 24 = .ok (.if_icmp .ne 7, 3) := dk_160 0 7 (dk_at dksX4_asks_1 0 rfl rfl)
theorem dX4_asks_27 : decode cX4_asks 27 = .ok (.iconst 1, 1) := dk_4 (dk_at dksX4_asks_1 3 rfl rfl)
theorem dX4_asks_28 : decode cX4_asks 28 = .ok (.goto 4, 3) := dk_167 0 4 (dk_at dksX4_asks_1 4 rfl rfl)
theorem dX4_asks_31 : decode cX4_asks 31 = .ok (.iconst 0, 1) := dk_3 (dk_at dksX4_asks_1 7 rfl rfl)
theorem dX4_asks_32 : decode cX4_asks 32 = .ok (.ireturn, 1) := dk_172 (dk_at dksX4_asks_1 8 rfl rfl)
abbrev cX4_isOff : ByteArray := prog_18_method_61_code
def yX4_isOff : MethodName := ⟨RX4, "isOff", "(I)Z"⟩
def dkwX4_isOff_2 : List UInt8 := [153, 0, 7, 4, 167, 0, 4, 3, 172]
abbrev dktX4_isOff_2 : List UInt8 := dkwX4_isOff_2 ++ []
def dkwX4_isOff_1 : List UInt8 := [180, 0, 54, 27, 46, 46, 161, 0, 25, 42, 180, 0, 32, 42, 180, 0, 60, 27, 46, 46, 28, 184, 1, 84]
abbrev dktX4_isOff_1 : List UInt8 := dkwX4_isOff_1 ++ dktX4_isOff_2
def dkwX4_isOff_0 : List UInt8 := [42, 42, 180, 0, 54, 27, 46, 42, 180, 0, 57, 27, 46, 182, 1, 81, 61, 28, 42, 180, 0, 41, 42]
abbrev dktX4_isOff_0 : List UInt8 := dkwX4_isOff_0 ++ dktX4_isOff_1
theorem dksX4_isOff_0 : cX4_isOff.data.toList.drop 0 = dktX4_isOff_0 := by decide +kernel
theorem dksX4_isOff_1 : cX4_isOff.data.toList.drop 23 = dktX4_isOff_1 := dk_seg dksX4_isOff_0 23 rfl rfl
theorem dksX4_isOff_2 : cX4_isOff.data.toList.drop 47 = dktX4_isOff_2 := dk_seg dksX4_isOff_1 24 rfl rfl
theorem dX4_isOff_0 : decode cX4_isOff 0 = .ok (.aload_n 0, 1) := dk_42 (dk_at dksX4_isOff_0 0 rfl rfl)
theorem dX4_isOff_1 : decode cX4_isOff 1 = .ok (.aload_n 0, 1) := dk_42 (dk_at dksX4_isOff_0 1 rfl rfl)
theorem dX4_isOff_2 : decode cX4_isOff 2 = .ok (.getfield 54, 3) := dk_180 0 54 (dk_at dksX4_isOff_0 2 rfl rfl)
theorem dX4_isOff_5 : decode cX4_isOff 5 = .ok (.iload_n 1, 1) := dk_27 (dk_at dksX4_isOff_0 5 rfl rfl)
theorem dX4_isOff_6 : decode cX4_isOff 6 = .ok (.iaload, 1) := dk_46 (dk_at dksX4_isOff_0 6 rfl rfl)
theorem dX4_isOff_7 : decode cX4_isOff 7 = .ok (.aload_n 0, 1) := dk_42 (dk_at dksX4_isOff_0 7 rfl rfl)
theorem dX4_isOff_8 : decode cX4_isOff 8 = .ok (.getfield 57, 3) := dk_180 0 57 (dk_at dksX4_isOff_0 8 rfl rfl)
theorem dX4_isOff_11 : decode cX4_isOff 11 = .ok (.iload_n 1, 1) := dk_27 (dk_at dksX4_isOff_0 11 rfl rfl)
theorem dX4_isOff_12 : decode cX4_isOff 12 = .ok (.iaload, 1) := dk_46 (dk_at dksX4_isOff_0 12 rfl rfl)
theorem dX4_isOff_13 : decode cX4_isOff 13 = .ok (.invokevirtual 337, 3) := dk_182 1 81 (dk_at dksX4_isOff_0 13 rfl rfl)
theorem dX4_isOff_16 : decode cX4_isOff 16 = .ok (.istore_n 2, 1) := dk_61 (dk_at dksX4_isOff_0 16 rfl rfl)
theorem dX4_isOff_17 : decode cX4_isOff 17 = .ok (.iload_n 2, 1) := dk_28 (dk_at dksX4_isOff_0 17 rfl rfl)
theorem dX4_isOff_18 : decode cX4_isOff 18 = .ok (.aload_n 0, 1) := dk_42 (dk_at dksX4_isOff_0 18 rfl rfl)
theorem dX4_isOff_19 : decode cX4_isOff 19 = .ok (.getfield 41, 3) := dk_180 0 41 (dk_at dksX4_isOff_0 19 rfl rfl)
theorem dX4_isOff_22 : decode cX4_isOff 22 = .ok (.aload_n 0, 1) := dk_42 (dk_at dksX4_isOff_0 22 rfl rfl)
theorem dX4_isOff_23 : decode cX4_isOff 23 = .ok (.getfield 54, 3) := dk_180 0 54 (dk_at dksX4_isOff_1 0 rfl rfl)
theorem dX4_isOff_26 : decode cX4_isOff 26 = .ok (.iload_n 1, 1) := dk_27 (dk_at dksX4_isOff_1 3 rfl rfl)
theorem dX4_isOff_27 : decode cX4_isOff 27 = .ok (.iaload, 1) := dk_46 (dk_at dksX4_isOff_1 4 rfl rfl)
theorem dX4_isOff_28 : decode cX4_isOff 28 = .ok (.iaload, 1) := dk_46 (dk_at dksX4_isOff_1 5 rfl rfl)
theorem dX4_isOff_29 : decode cX4_isOff 29 = .ok (.if_icmp .lt 25, 3) := dk_161 0 25 (dk_at dksX4_isOff_1 6 rfl rfl)
theorem dX4_isOff_32 : decode cX4_isOff 32 = .ok (.aload_n 0, 1) := dk_42 (dk_at dksX4_isOff_1 9 rfl rfl)
theorem dX4_isOff_33 : decode cX4_isOff 33 = .ok (.getfield 32, 3) := dk_180 0 32 (dk_at dksX4_isOff_1 10 rfl rfl)
theorem dX4_isOff_36 : decode cX4_isOff 36 = .ok (.aload_n 0, 1) := dk_42 (dk_at dksX4_isOff_1 13 rfl rfl)
theorem dX4_isOff_37 : decode cX4_isOff 37 = .ok (.getfield 60, 3) := dk_180 0 60 (dk_at dksX4_isOff_1 14 rfl rfl)
theorem dX4_isOff_40 : decode cX4_isOff 40 = .ok (.iload_n 1, 1) := dk_27 (dk_at dksX4_isOff_1 17 rfl rfl)
theorem dX4_isOff_41 : decode cX4_isOff 41 = .ok (.iaload, 1) := dk_46 (dk_at dksX4_isOff_1 18 rfl rfl)
theorem dX4_isOff_42 : decode cX4_isOff 42 = .ok (.iaload, 1) := dk_46 (dk_at dksX4_isOff_1 19 rfl rfl)
theorem dX4_isOff_43 : decode cX4_isOff 43 = .ok (.iload_n 2, 1) := dk_28 (dk_at dksX4_isOff_1 20 rfl rfl)
theorem dX4_isOff_44 : decode cX4_isOff 44 = .ok (.invokestatic 340, 3) := dk_184 1 84 (dk_at dksX4_isOff_1 21 rfl rfl)
theorem dX4_isOff_47 : decode cX4_isOff 47 = .ok (.ifCond .eq 7, 3) := dk_153 0 7 (dk_at dksX4_isOff_2 0 rfl rfl)
theorem dX4_isOff_50 : decode cX4_isOff 50 = .ok (.iconst 1, 1) := dk_4 (dk_at dksX4_isOff_2 3 rfl rfl)
theorem dX4_isOff_51 : decode cX4_isOff 51 = .ok (.goto 4, 3) := dk_167 0 4 (dk_at dksX4_isOff_2 4 rfl rfl)
theorem dX4_isOff_54 : decode cX4_isOff 54 = .ok (.iconst 0, 1) := dk_3 (dk_at dksX4_isOff_2 7 rfl rfl)
theorem dX4_isOff_55 : decode cX4_isOff 55 = .ok (.ireturn, 1) := dk_172 (dk_at dksX4_isOff_2 8 rfl rfl)
abbrev cX4_latestOff : ByteArray := prog_18_method_57_code
def yX4_latestOff : MethodName := ⟨RX4, "latestOff", "(II)I"⟩
def dkwX4_latestOff_1 : List UInt8 := [180, 0, 47, 27, 46, 4, 100, 167, 0, 4, 28, 172]
abbrev dktX4_latestOff_1 : List UInt8 := dkwX4_latestOff_1 ++ []
def dkwX4_latestOff_0 : List UInt8 := [42, 180, 0, 47, 27, 46, 155, 0, 26, 42, 180, 0, 47, 27, 46, 4, 100, 28, 162, 0, 14, 42]
abbrev dktX4_latestOff_0 : List UInt8 := dkwX4_latestOff_0 ++ dktX4_latestOff_1
theorem dksX4_latestOff_0 : cX4_latestOff.data.toList.drop 0 = dktX4_latestOff_0 := by decide +kernel
theorem dksX4_latestOff_1 : cX4_latestOff.data.toList.drop 22 = dktX4_latestOff_1 := dk_seg dksX4_latestOff_0 22 rfl rfl
theorem dX4_latestOff_0 : decode cX4_latestOff 0 = .ok (.aload_n 0, 1) := dk_42 (dk_at dksX4_latestOff_0 0 rfl rfl)
theorem dX4_latestOff_1 : decode cX4_latestOff 1 = .ok (.getfield 47, 3) := dk_180 0 47 (dk_at dksX4_latestOff_0 1 rfl rfl)
theorem dX4_latestOff_4 : decode cX4_latestOff 4 = .ok (.iload_n 1, 1) := dk_27 (dk_at dksX4_latestOff_0 4 rfl rfl)
theorem dX4_latestOff_5 : decode cX4_latestOff 5 = .ok (.iaload, 1) := dk_46 (dk_at dksX4_latestOff_0 5 rfl rfl)
theorem dX4_latestOff_6 : decode cX4_latestOff 6 = .ok (.ifCond .lt 26, 3) := dk_155 0 26 (dk_at dksX4_latestOff_0 6 rfl rfl)
theorem dX4_latestOff_9 : decode cX4_latestOff 9 = .ok (.aload_n 0, 1) := dk_42 (dk_at dksX4_latestOff_0 9 rfl rfl)
theorem dX4_latestOff_10 : decode cX4_latestOff 10 = .ok (.getfield 47, 3) := dk_180 0 47 (dk_at dksX4_latestOff_0 10 rfl rfl)
theorem dX4_latestOff_13 : decode cX4_latestOff 13 = .ok (.iload_n 1, 1) := dk_27 (dk_at dksX4_latestOff_0 13 rfl rfl)
theorem dX4_latestOff_14 : decode cX4_latestOff 14 = .ok (.iaload, 1) := dk_46 (dk_at dksX4_latestOff_0 14 rfl rfl)
theorem dX4_latestOff_15 : decode cX4_latestOff 15 = .ok (.iconst 1, 1) := dk_4 (dk_at dksX4_latestOff_0 15 rfl rfl)
theorem dX4_latestOff_16 : decode cX4_latestOff 16 = .ok (.isub, 1) := dk_100 (dk_at dksX4_latestOff_0 16 rfl rfl)
theorem dX4_latestOff_17 : decode cX4_latestOff 17 = .ok (.iload_n 2, 1) := dk_28 (dk_at dksX4_latestOff_0 17 rfl rfl)
theorem dX4_latestOff_18 : decode cX4_latestOff 18 = .ok (.if_icmp .ge 14, 3) := dk_162 0 14 (dk_at dksX4_latestOff_0 18 rfl rfl)
theorem dX4_latestOff_21 : decode cX4_latestOff 21 = .ok (.aload_n 0, 1) := dk_42 (dk_at dksX4_latestOff_0 21 rfl rfl)
theorem dX4_latestOff_22 : decode cX4_latestOff 22 = .ok (.getfield 47, 3) := dk_180 0 47 (dk_at dksX4_latestOff_1 0 rfl rfl)
theorem dX4_latestOff_25 : decode cX4_latestOff 25 = .ok (.iload_n 1, 1) := dk_27 (dk_at dksX4_latestOff_1 3 rfl rfl)
theorem dX4_latestOff_26 : decode cX4_latestOff 26 = .ok (.iaload, 1) := dk_46 (dk_at dksX4_latestOff_1 4 rfl rfl)
theorem dX4_latestOff_27 : decode cX4_latestOff 27 = .ok (.iconst 1, 1) := dk_4 (dk_at dksX4_latestOff_1 5 rfl rfl)
theorem dX4_latestOff_28 : decode cX4_latestOff 28 = .ok (.isub, 1) := dk_100 (dk_at dksX4_latestOff_1 6 rfl rfl)
theorem dX4_latestOff_29 : decode cX4_latestOff 29 = .ok (.goto 4, 3) := dk_167 0 4 (dk_at dksX4_latestOff_1 7 rfl rfl)
theorem dX4_latestOff_32 : decode cX4_latestOff 32 = .ok (.iload_n 2, 1) := dk_28 (dk_at dksX4_latestOff_1 10 rfl rfl)
theorem dX4_latestOff_33 : decode cX4_latestOff 33 = .ok (.ireturn, 1) := dk_172 (dk_at dksX4_latestOff_1 11 rfl rfl)
abbrev cX4_led : ByteArray := prog_18_method_64_code
def yX4_led : MethodName := ⟨RX4, "led", "(I)I"⟩
def dkwX4_led_0 : List UInt8 := [42, 3, 181, 0, 124, 42, 27, 182, 1, 65, 153, 0, 11, 42, 27, 182, 1, 93, 167, 0, 4, 2, 172]
abbrev dktX4_led_0 : List UInt8 := dkwX4_led_0 ++ []
theorem dksX4_led_0 : cX4_led.data.toList.drop 0 = dktX4_led_0 := by decide +kernel
theorem dX4_led_0 : decode cX4_led 0 = .ok (.aload_n 0, 1) := dk_42 (dk_at dksX4_led_0 0 rfl rfl)
theorem dX4_led_1 : decode cX4_led 1 = .ok (.iconst 0, 1) := dk_3 (dk_at dksX4_led_0 1 rfl rfl)
theorem dX4_led_2 : decode cX4_led 2 = .ok (.putfield 124, 3) := dk_181 0 124 (dk_at dksX4_led_0 2 rfl rfl)
theorem dX4_led_5 : decode cX4_led 5 = .ok (.aload_n 0, 1) := dk_42 (dk_at dksX4_led_0 5 rfl rfl)
theorem dX4_led_6 : decode cX4_led 6 = .ok (.iload_n 1, 1) := dk_27 (dk_at dksX4_led_0 6 rfl rfl)
theorem dX4_led_7 : decode cX4_led 7 = .ok (.invokevirtual 321, 3) := dk_182 1 65 (dk_at dksX4_led_0 7 rfl rfl)
theorem dX4_led_10 : decode cX4_led 10 = .ok (.ifCond .eq 11, 3) := dk_153 0 11 (dk_at dksX4_led_0 10 rfl rfl)
theorem dX4_led_13 : decode cX4_led 13 = .ok (.aload_n 0, 1) := dk_42 (dk_at dksX4_led_0 13 rfl rfl)
theorem dX4_led_14 : decode cX4_led 14 = .ok (.iload_n 1, 1) := dk_27 (dk_at dksX4_led_0 14 rfl rfl)
theorem dX4_led_15 : decode cX4_led 15 = .ok (.invokevirtual 349, 3) := dk_182 1 93 (dk_at dksX4_led_0 15 rfl rfl)
theorem dX4_led_18 : decode cX4_led 18 = .ok (.goto 4, 3) := dk_167 0 4 (dk_at dksX4_led_0 18 rfl rfl)
theorem dX4_led_21 : decode cX4_led 21 = .ok (.iconst (-1), 1) := dk_2 (dk_at dksX4_led_0 21 rfl rfl)
theorem dX4_led_22 : decode cX4_led 22 = .ok (.ireturn, 1) := dk_172 (dk_at dksX4_led_0 22 rfl rfl)
abbrev cX4_words : ByteArray := prog_18_method_65_code
def yX4_words : MethodName := ⟨RX4, "words", "(II)I"⟩
def dkwX4_words_3 : List UInt8 := [160, 0, 7, 4, 167, 0, 4, 3, 96, 62, 132, 4, 1, 167, 255, 204, 29, 172]
abbrev dktX4_words_3 : List UInt8 := dkwX4_words_3 ++ []
def dkwX4_words_2 : List UInt8 := [153, 0, 30, 42, 180, 0, 54, 21, 4, 46, 27, 160, 0, 19, 42, 21, 4, 182, 1, 99, 28, 126, 28]
abbrev dktX4_words_2 : List UInt8 := dkwX4_words_2 ++ dktX4_words_3
def dkwX4_words_1 : List UInt8 := [172, 3, 62, 3, 54, 4, 21, 4, 42, 180, 0, 198, 162, 0, 49, 29, 42, 21, 4, 182, 1, 65]
abbrev dktX4_words_1 : List UInt8 := dkwX4_words_1 ++ dktX4_words_2
def dkwX4_words_0 : List UInt8 := [42, 3, 181, 0, 124, 42, 27, 182, 1, 59, 153, 0, 13, 28, 4, 16, 127, 184, 1, 68, 154, 0, 5, 2]
abbrev dktX4_words_0 : List UInt8 := dkwX4_words_0 ++ dktX4_words_1
theorem dksX4_words_0 : cX4_words.data.toList.drop 0 = dktX4_words_0 := by decide +kernel
theorem dksX4_words_1 : cX4_words.data.toList.drop 24 = dktX4_words_1 := dk_seg dksX4_words_0 24 rfl rfl
theorem dksX4_words_2 : cX4_words.data.toList.drop 46 = dktX4_words_2 := dk_seg dksX4_words_1 22 rfl rfl
theorem dksX4_words_3 : cX4_words.data.toList.drop 69 = dktX4_words_3 := dk_seg dksX4_words_2 23 rfl rfl
theorem dX4_words_0 : decode cX4_words 0 = .ok (.aload_n 0, 1) := dk_42 (dk_at dksX4_words_0 0 rfl rfl)
theorem dX4_words_1 : decode cX4_words 1 = .ok (.iconst 0, 1) := dk_3 (dk_at dksX4_words_0 1 rfl rfl)
theorem dX4_words_2 : decode cX4_words 2 = .ok (.putfield 124, 3) := dk_181 0 124 (dk_at dksX4_words_0 2 rfl rfl)
theorem dX4_words_5 : decode cX4_words 5 = .ok (.aload_n 0, 1) := dk_42 (dk_at dksX4_words_0 5 rfl rfl)
theorem dX4_words_6 : decode cX4_words 6 = .ok (.iload_n 1, 1) := dk_27 (dk_at dksX4_words_0 6 rfl rfl)
theorem dX4_words_7 : decode cX4_words 7 = .ok (.invokevirtual 315, 3) := dk_182 1 59 (dk_at dksX4_words_0 7 rfl rfl)
theorem dX4_words_10 : decode cX4_words 10 = .ok (.ifCond .eq 13, 3) := dk_153 0 13 (dk_at dksX4_words_0 10 rfl rfl)
theorem dX4_words_13 : decode cX4_words 13 = .ok (.iload_n 2, 1) := dk_28 (dk_at dksX4_words_0 13 rfl rfl)
theorem dX4_words_14 : decode cX4_words 14 = .ok (.iconst 1, 1) := dk_4 (dk_at dksX4_words_0 14 rfl rfl)
theorem dX4_words_15 : decode cX4_words 15 = .ok (.bipush 127, 2) := dk_16 127 (dk_at dksX4_words_0 15 rfl rfl)
theorem dX4_words_17 : decode cX4_words 17 = .ok (.invokestatic 324, 3) := dk_184 1 68 (dk_at dksX4_words_0 17 rfl rfl)
theorem dX4_words_20 : decode cX4_words 20 = .ok (.ifCond .ne 5, 3) := dk_154 0 5 (dk_at dksX4_words_0 20 rfl rfl)
theorem dX4_words_23 : decode cX4_words 23 = .ok (.iconst (-1), 1) := dk_2 (dk_at dksX4_words_0 23 rfl rfl)
theorem dX4_words_24 : decode cX4_words 24 = .ok (.ireturn, 1) := dk_172 (dk_at dksX4_words_1 0 rfl rfl)
theorem dX4_words_25 : decode cX4_words 25 = .ok (.iconst 0, 1) := dk_3 (dk_at dksX4_words_1 1 rfl rfl)
theorem dX4_words_26 : decode cX4_words 26 = .ok (.istore_n 3, 1) := dk_62 (dk_at dksX4_words_1 2 rfl rfl)
theorem dX4_words_27 : decode cX4_words 27 = .ok (.iconst 0, 1) := dk_3 (dk_at dksX4_words_1 3 rfl rfl)
theorem dX4_words_28 : decode cX4_words 28 = .ok (.istore 4, 2) := dk_54 4 (dk_at dksX4_words_1 4 rfl rfl)
theorem dX4_words_30 : decode cX4_words 30 = .ok (.iload 4, 2) := dk_21 4 (dk_at dksX4_words_1 6 rfl rfl)
theorem dX4_words_32 : decode cX4_words 32 = .ok (.aload_n 0, 1) := dk_42 (dk_at dksX4_words_1 8 rfl rfl)
theorem dX4_words_33 : decode cX4_words 33 = .ok (.getfield 198, 3) := dk_180 0 198 (dk_at dksX4_words_1 9 rfl rfl)
theorem dX4_words_36 : decode cX4_words 36 = .ok (.if_icmp .ge 49, 3) := dk_162 0 49 (dk_at dksX4_words_1 12 rfl rfl)
theorem dX4_words_39 : decode cX4_words 39 = .ok (.iload_n 3, 1) := dk_29 (dk_at dksX4_words_1 15 rfl rfl)
theorem dX4_words_40 : decode cX4_words 40 = .ok (.aload_n 0, 1) := dk_42 (dk_at dksX4_words_1 16 rfl rfl)
theorem dX4_words_41 : decode cX4_words 41 = .ok (.iload 4, 2) := dk_21 4 (dk_at dksX4_words_1 17 rfl rfl)
theorem dX4_words_43 : decode cX4_words 43 = .ok (.invokevirtual 321, 3) := dk_182 1 65 (dk_at dksX4_words_1 19 rfl rfl)
theorem dX4_words_46 : decode cX4_words 46 = .ok (.ifCond .eq 30, 3) := dk_153 0 30 (dk_at dksX4_words_2 0 rfl rfl)
theorem dX4_words_49 : decode cX4_words 49 = .ok (.aload_n 0, 1) := dk_42 (dk_at dksX4_words_2 3 rfl rfl)
theorem dX4_words_50 : decode cX4_words 50 = .ok (.getfield 54, 3) := dk_180 0 54 (dk_at dksX4_words_2 4 rfl rfl)
theorem dX4_words_53 : decode cX4_words 53 = .ok (.iload 4, 2) := dk_21 4 (dk_at dksX4_words_2 7 rfl rfl)
theorem dX4_words_55 : decode cX4_words 55 = .ok (.iaload, 1) := dk_46 (dk_at dksX4_words_2 9 rfl rfl)
theorem dX4_words_56 : decode cX4_words 56 = .ok (.iload_n 1, 1) := dk_27 (dk_at dksX4_words_2 10 rfl rfl)
theorem dX4_words_57 : decode cX4_words 57 = .ok (.if_icmp .ne 19, 3) := dk_160 0 19 (dk_at dksX4_words_2 11 rfl rfl)
theorem dX4_words_60 : decode cX4_words 60 = .ok (.aload_n 0, 1) := dk_42 (dk_at dksX4_words_2 14 rfl rfl)
theorem dX4_words_61 : decode cX4_words 61 = .ok (.iload 4, 2) := dk_21 4 (dk_at dksX4_words_2 15 rfl rfl)
theorem dX4_words_63 : decode cX4_words 63 = .ok (.invokevirtual 355, 3) := dk_182 1 99 (dk_at dksX4_words_2 17 rfl rfl)
theorem dX4_words_66 : decode cX4_words 66 = .ok (.iload_n 2, 1) := dk_28 (dk_at dksX4_words_2 20 rfl rfl)
theorem dX4_words_67 : decode cX4_words 67 = .ok (.iand, 1) := dk_126 (dk_at dksX4_words_2 21 rfl rfl)
theorem dX4_words_68 : decode cX4_words 68 = .ok (.iload_n 2, 1) := dk_28 (dk_at dksX4_words_2 22 rfl rfl)
theorem dX4_words_69 : decode cX4_words 69 = .ok (.if_icmp .ne 7, 3) := dk_160 0 7 (dk_at dksX4_words_3 0 rfl rfl)
theorem dX4_words_72 : decode cX4_words 72 = .ok (.iconst 1, 1) := dk_4 (dk_at dksX4_words_3 3 rfl rfl)
theorem dX4_words_73 : decode cX4_words 73 = .ok (.goto 4, 3) := dk_167 0 4 (dk_at dksX4_words_3 4 rfl rfl)
theorem dX4_words_76 : decode cX4_words 76 = .ok (.iconst 0, 1) := dk_3 (dk_at dksX4_words_3 7 rfl rfl)
theorem dX4_words_77 : decode cX4_words 77 = .ok (.iadd, 1) := dk_96 (dk_at dksX4_words_3 8 rfl rfl)
theorem dX4_words_78 : decode cX4_words 78 = .ok (.istore_n 3, 1) := dk_62 (dk_at dksX4_words_3 9 rfl rfl)
theorem dX4_words_79 : decode cX4_words 79 = .ok (.iinc 4 1, 3) := dk_132 4 1 (dk_at dksX4_words_3 10 rfl rfl)
theorem dX4_words_82 : decode cX4_words 82 = .ok (.goto (-52), 3) := dk_167 255 204 (dk_at dksX4_words_3 13 rfl rfl)
theorem dX4_words_85 : decode cX4_words 85 = .ok (.iload_n 3, 1) := dk_29 (dk_at dksX4_words_3 16 rfl rfl)
theorem dX4_words_86 : decode cX4_words 86 = .ok (.ireturn, 1) := dk_172 (dk_at dksX4_words_3 17 rfl rfl)
abbrev cX4_truth : ByteArray := prog_18_method_69_code
def yX4_truth : MethodName := ⟨RX4, "truth", "(I)Z"⟩
def dkwX4_truth_0 : List UInt8 := [42, 3, 181, 0, 124, 27, 4, 16, 9, 184, 1, 68, 154, 0, 5, 3, 172, 42, 27, 181, 0, 90, 4, 172]
abbrev dktX4_truth_0 : List UInt8 := dkwX4_truth_0 ++ []
theorem dksX4_truth_0 : cX4_truth.data.toList.drop 0 = dktX4_truth_0 := by decide +kernel
theorem dX4_truth_0 : decode cX4_truth 0 = .ok (.aload_n 0, 1) := dk_42 (dk_at dksX4_truth_0 0 rfl rfl)
theorem dX4_truth_1 : decode cX4_truth 1 = .ok (.iconst 0, 1) := dk_3 (dk_at dksX4_truth_0 1 rfl rfl)
theorem dX4_truth_2 : decode cX4_truth 2 = .ok (.putfield 124, 3) := dk_181 0 124 (dk_at dksX4_truth_0 2 rfl rfl)
theorem dX4_truth_5 : decode cX4_truth 5 = .ok (.iload_n 1, 1) := dk_27 (dk_at dksX4_truth_0 5 rfl rfl)
theorem dX4_truth_6 : decode cX4_truth 6 = .ok (.iconst 1, 1) := dk_4 (dk_at dksX4_truth_0 6 rfl rfl)
theorem dX4_truth_7 : decode cX4_truth 7 = .ok (.bipush 9, 2) := dk_16 9 (dk_at dksX4_truth_0 7 rfl rfl)
theorem dX4_truth_9 : decode cX4_truth 9 = .ok (.invokestatic 324, 3) := dk_184 1 68 (dk_at dksX4_truth_0 9 rfl rfl)
theorem dX4_truth_12 : decode cX4_truth 12 = .ok (.ifCond .ne 5, 3) := dk_154 0 5 (dk_at dksX4_truth_0 12 rfl rfl)
theorem dX4_truth_15 : decode cX4_truth 15 = .ok (.iconst 0, 1) := dk_3 (dk_at dksX4_truth_0 15 rfl rfl)
theorem dX4_truth_16 : decode cX4_truth 16 = .ok (.ireturn, 1) := dk_172 (dk_at dksX4_truth_0 16 rfl rfl)
theorem dX4_truth_17 : decode cX4_truth 17 = .ok (.aload_n 0, 1) := dk_42 (dk_at dksX4_truth_0 17 rfl rfl)
theorem dX4_truth_18 : decode cX4_truth 18 = .ok (.iload_n 1, 1) := dk_27 (dk_at dksX4_truth_0 18 rfl rfl)
theorem dX4_truth_19 : decode cX4_truth 19 = .ok (.putfield 90, 3) := dk_181 0 90 (dk_at dksX4_truth_0 19 rfl rfl)
theorem dX4_truth_22 : decode cX4_truth 22 = .ok (.iconst 1, 1) := dk_4 (dk_at dksX4_truth_0 22 rfl rfl)
theorem dX4_truth_23 : decode cX4_truth 23 = .ok (.ireturn, 1) := dk_172 (dk_at dksX4_truth_0 23 rfl rfl)
abbrev cX4_begin : ByteArray := prog_18_method_70_code
def yX4_begin : MethodName := ⟨RX4, "begin", "(II)Z"⟩
def dkwX4_begin_1 : List UInt8 := [154, 0, 5, 3, 172, 42, 27, 181, 0, 93, 42, 28, 181, 0, 96, 4, 172]
abbrev dktX4_begin_1 : List UInt8 := dkwX4_begin_1 ++ []
def dkwX4_begin_0 : List UInt8 := [42, 3, 181, 0, 124, 27, 4, 16, 99, 184, 1, 68, 153, 0, 13, 28, 4, 16, 99, 184, 1, 68]
abbrev dktX4_begin_0 : List UInt8 := dkwX4_begin_0 ++ dktX4_begin_1
theorem dksX4_begin_0 : cX4_begin.data.toList.drop 0 = dktX4_begin_0 := by decide +kernel
theorem dksX4_begin_1 : cX4_begin.data.toList.drop 22 = dktX4_begin_1 := dk_seg dksX4_begin_0 22 rfl rfl
theorem dX4_begin_0 : decode cX4_begin 0 = .ok (.aload_n 0, 1) := dk_42 (dk_at dksX4_begin_0 0 rfl rfl)
theorem dX4_begin_1 : decode cX4_begin 1 = .ok (.iconst 0, 1) := dk_3 (dk_at dksX4_begin_0 1 rfl rfl)
theorem dX4_begin_2 : decode cX4_begin 2 = .ok (.putfield 124, 3) := dk_181 0 124 (dk_at dksX4_begin_0 2 rfl rfl)
theorem dX4_begin_5 : decode cX4_begin 5 = .ok (.iload_n 1, 1) := dk_27 (dk_at dksX4_begin_0 5 rfl rfl)
theorem dX4_begin_6 : decode cX4_begin 6 = .ok (.iconst 1, 1) := dk_4 (dk_at dksX4_begin_0 6 rfl rfl)
theorem dX4_begin_7 : decode cX4_begin 7 = .ok (.bipush 99, 2) := dk_16 99 (dk_at dksX4_begin_0 7 rfl rfl)
theorem dX4_begin_9 : decode cX4_begin 9 = .ok (.invokestatic 324, 3) := dk_184 1 68 (dk_at dksX4_begin_0 9 rfl rfl)
theorem dX4_begin_12 : decode cX4_begin 12 = .ok (.ifCond .eq 13, 3) := dk_153 0 13 (dk_at dksX4_begin_0 12 rfl rfl)
theorem dX4_begin_15 : decode cX4_begin 15 = .ok (.iload_n 2, 1) := dk_28 (dk_at dksX4_begin_0 15 rfl rfl)
theorem dX4_begin_16 : decode cX4_begin 16 = .ok (.iconst 1, 1) := dk_4 (dk_at dksX4_begin_0 16 rfl rfl)
theorem dX4_begin_17 : decode cX4_begin 17 = .ok (.bipush 99, 2) := dk_16 99 (dk_at dksX4_begin_0 17 rfl rfl)
theorem dX4_begin_19 : decode cX4_begin 19 = .ok (.invokestatic 324, 3) := dk_184 1 68 (dk_at dksX4_begin_0 19 rfl rfl)
theorem dX4_begin_22 : decode cX4_begin 22 = .ok (.ifCond .ne 5, 3) := dk_154 0 5 (dk_at dksX4_begin_1 0 rfl rfl)
theorem dX4_begin_25 : decode cX4_begin 25 = .ok (.iconst 0, 1) := dk_3 (dk_at dksX4_begin_1 3 rfl rfl)
theorem dX4_begin_26 : decode cX4_begin 26 = .ok (.ireturn, 1) := dk_172 (dk_at dksX4_begin_1 4 rfl rfl)
theorem dX4_begin_27 : decode cX4_begin 27 = .ok (.aload_n 0, 1) := dk_42 (dk_at dksX4_begin_1 5 rfl rfl)
theorem dX4_begin_28 : decode cX4_begin 28 = .ok (.iload_n 1, 1) := dk_27 (dk_at dksX4_begin_1 6 rfl rfl)
theorem dX4_begin_29 : decode cX4_begin 29 = .ok (.putfield 93, 3) := dk_181 0 93 (dk_at dksX4_begin_1 7 rfl rfl)
theorem dX4_begin_32 : decode cX4_begin 32 = .ok (.aload_n 0, 1) := dk_42 (dk_at dksX4_begin_1 10 rfl rfl)
theorem dX4_begin_33 : decode cX4_begin 33 = .ok (.iload_n 2, 1) := dk_28 (dk_at dksX4_begin_1 11 rfl rfl)
theorem dX4_begin_34 : decode cX4_begin 34 = .ok (.putfield 96, 3) := dk_181 0 96 (dk_at dksX4_begin_1 12 rfl rfl)
theorem dX4_begin_37 : decode cX4_begin 37 = .ok (.iconst 1, 1) := dk_4 (dk_at dksX4_begin_1 15 rfl rfl)
theorem dX4_begin_38 : decode cX4_begin 38 = .ok (.ireturn, 1) := dk_172 (dk_at dksX4_begin_1 16 rfl rfl)
abbrev cX4_odds : ByteArray := prog_18_method_72_code
def yX4_odds : MethodName := ⟨RX4, "odds", "(III)J"⟩
def dkwX4_odds_10 : List UInt8 := [154, 0, 10, 42, 180, 1, 102, 167, 0, 7, 42, 180, 1, 106, 173]
abbrev dktX4_odds_10 : List UInt8 := dkwX4_odds_10 ++ []
def dkwX4_odds_9 : List UInt8 := [180, 0, 60, 21, 4, 46, 42, 21, 4, 182, 1, 87, 182, 1, 123, 132, 4, 1, 167, 255, 174, 29]
abbrev dktX4_odds_9 : List UInt8 := dkwX4_odds_9 ++ dktX4_odds_10
def dkwX4_odds_8 : List UInt8 := [16, 14, 126, 5, 160, 0, 33, 28, 4, 159, 0, 11, 21, 5, 16, 16, 126, 154, 0, 20, 42, 42]
abbrev dktX4_odds_8 : List UInt8 := dkwX4_odds_8 ++ dktX4_odds_9
def dkwX4_odds_7 : List UInt8 := [42, 180, 0, 54, 21, 4, 46, 27, 159, 0, 6, 167, 0, 50, 42, 21, 4, 182, 1, 99, 54, 5, 21, 5]
abbrev dktX4_odds_7 : List UInt8 := dkwX4_odds_7 ++ dktX4_odds_8
def dkwX4_odds_6 : List UInt8 := [167, 0, 91, 3, 54, 4, 21, 4, 42, 180, 0, 198, 162, 0, 79, 42, 21, 4, 182, 1, 65, 153, 0, 64]
abbrev dktX4_odds_6 : List UInt8 := dkwX4_odds_6 ++ dktX4_odds_7
def dkwX4_odds_5 : List UInt8 := [180, 0, 69, 21, 4, 46, 46, 160, 0, 7, 4, 167, 0, 4, 3, 182, 1, 123, 132, 4, 1, 167, 255, 186]
abbrev dktX4_odds_5 : List UInt8 := dkwX4_odds_5 ++ dktX4_odds_6
def dkwX4_odds_4 : List UInt8 := [153, 0, 41, 42, 42, 180, 0, 69, 21, 4, 46, 42, 180, 0, 72, 21, 4, 46, 42, 180, 0, 26, 42]
abbrev dktX4_odds_4 : List UInt8 := dkwX4_odds_4 ++ dktX4_odds_5
def dkwX4_odds_3 : List UInt8 := [180, 0, 201, 162, 0, 67, 42, 180, 0, 66, 21, 4, 46, 27, 160, 0, 50, 42, 21, 4, 182, 1, 120]
abbrev dktX4_odds_3 : List UInt8 := dkwX4_odds_3 ++ dktX4_odds_4
def dkwX4_odds_2 : List UInt8 := [180, 0, 96, 133, 181, 1, 106, 42, 182, 1, 115, 28, 5, 160, 0, 82, 3, 54, 4, 21, 4, 42]
abbrev dktX4_odds_2 : List UInt8 := dkwX4_odds_2 ++ dktX4_odds_3
def dkwX4_odds_1 : List UInt8 := [4, 184, 1, 68, 154, 0, 7, 20, 1, 118, 173, 42, 42, 180, 0, 93, 133, 181, 1, 102, 42, 42]
abbrev dktX4_odds_1 : List UInt8 := dkwX4_odds_1 ++ dktX4_odds_2
def dkwX4_odds_0 : List UInt8 := [42, 3, 181, 0, 124, 42, 27, 182, 1, 59, 153, 0, 21, 28, 3, 5, 184, 1, 68, 153, 0, 12, 29, 3]
abbrev dktX4_odds_0 : List UInt8 := dkwX4_odds_0 ++ dktX4_odds_1
theorem dksX4_odds_0 : cX4_odds.data.toList.drop 0 = dktX4_odds_0 := by decide +kernel
theorem dksX4_odds_1 : cX4_odds.data.toList.drop 24 = dktX4_odds_1 := dk_seg dksX4_odds_0 24 rfl rfl
theorem dksX4_odds_2 : cX4_odds.data.toList.drop 46 = dktX4_odds_2 := dk_seg dksX4_odds_1 22 rfl rfl
theorem dksX4_odds_3 : cX4_odds.data.toList.drop 68 = dktX4_odds_3 := dk_seg dksX4_odds_2 22 rfl rfl
theorem dksX4_odds_4 : cX4_odds.data.toList.drop 91 = dktX4_odds_4 := dk_seg dksX4_odds_3 23 rfl rfl
theorem dksX4_odds_5 : cX4_odds.data.toList.drop 114 = dktX4_odds_5 := dk_seg dksX4_odds_4 23 rfl rfl
theorem dksX4_odds_6 : cX4_odds.data.toList.drop 138 = dktX4_odds_6 := dk_seg dksX4_odds_5 24 rfl rfl
theorem dksX4_odds_7 : cX4_odds.data.toList.drop 162 = dktX4_odds_7 := dk_seg dksX4_odds_6 24 rfl rfl
theorem dksX4_odds_8 : cX4_odds.data.toList.drop 186 = dktX4_odds_8 := dk_seg dksX4_odds_7 24 rfl rfl
theorem dksX4_odds_9 : cX4_odds.data.toList.drop 208 = dktX4_odds_9 := dk_seg dksX4_odds_8 22 rfl rfl
theorem dksX4_odds_10 : cX4_odds.data.toList.drop 230 = dktX4_odds_10 := dk_seg dksX4_odds_9 22 rfl rfl
theorem dX4_odds_0 : decode cX4_odds 0 = .ok (.aload_n 0, 1) := dk_42 (dk_at dksX4_odds_0 0 rfl rfl)
theorem dX4_odds_1 : decode cX4_odds 1 = .ok (.iconst 0, 1) := dk_3 (dk_at dksX4_odds_0 1 rfl rfl)
theorem dX4_odds_2 : decode cX4_odds 2 = .ok (.putfield 124, 3) := dk_181 0 124 (dk_at dksX4_odds_0 2 rfl rfl)
theorem dX4_odds_5 : decode cX4_odds 5 = .ok (.aload_n 0, 1) := dk_42 (dk_at dksX4_odds_0 5 rfl rfl)
theorem dX4_odds_6 : decode cX4_odds 6 = .ok (.iload_n 1, 1) := dk_27 (dk_at dksX4_odds_0 6 rfl rfl)
theorem dX4_odds_7 : decode cX4_odds 7 = .ok (.invokevirtual 315, 3) := dk_182 1 59 (dk_at dksX4_odds_0 7 rfl rfl)
theorem dX4_odds_10 : decode cX4_odds 10 = .ok (.ifCond .eq 21, 3) := dk_153 0 21 (dk_at dksX4_odds_0 10 rfl rfl)
theorem dX4_odds_13 : decode cX4_odds 13 = .ok (.iload_n 2, 1) := dk_28 (dk_at dksX4_odds_0 13 rfl rfl)
theorem dX4_odds_14 : decode cX4_odds 14 = .ok (.iconst 0, 1) := dk_3 (dk_at dksX4_odds_0 14 rfl rfl)
theorem dX4_odds_15 : decode cX4_odds 15 = .ok (.iconst 2, 1) := dk_5 (dk_at dksX4_odds_0 15 rfl rfl)
theorem dX4_odds_16 : decode cX4_odds 16 = .ok (.invokestatic 324, 3) := dk_184 1 68 (dk_at dksX4_odds_0 16 rfl rfl)
theorem dX4_odds_19 : decode cX4_odds 19 = .ok (.ifCond .eq 12, 3) := dk_153 0 12 (dk_at dksX4_odds_0 19 rfl rfl)
theorem dX4_odds_22 : decode cX4_odds 22 = .ok (.iload_n 3, 1) := dk_29 (dk_at dksX4_odds_0 22 rfl rfl)
theorem dX4_odds_23 : decode cX4_odds 23 = .ok (.iconst 0, 1) := dk_3 (dk_at dksX4_odds_0 23 rfl rfl)
theorem dX4_odds_24 : decode cX4_odds 24 = .ok (.iconst 1, 1) := dk_4 (dk_at dksX4_odds_1 0 rfl rfl)
theorem dX4_odds_25 : decode cX4_odds 25 = .ok (.invokestatic 324, 3) := dk_184 1 68 (dk_at dksX4_odds_1 1 rfl rfl)
theorem dX4_odds_28 : decode cX4_odds 28 = .ok (.ifCond .ne 7, 3) := dk_154 0 7 (dk_at dksX4_odds_1 4 rfl rfl)
theorem dX4_odds_31 : decode cX4_odds 31 = .ok (.ldc2_w 374, 3) := dk_20 1 118 (dk_at dksX4_odds_1 7 rfl rfl)
theorem dX4_odds_34 : decode cX4_odds 34 = .ok (.lreturn, 1) := dk_173 (dk_at dksX4_odds_1 10 rfl rfl)
theorem dX4_odds_35 : decode cX4_odds 35 = .ok (.aload_n 0, 1) := dk_42 (dk_at dksX4_odds_1 11 rfl rfl)
theorem dX4_odds_36 : decode cX4_odds 36 = .ok (.aload_n 0, 1) := dk_42 (dk_at dksX4_odds_1 12 rfl rfl)
theorem dX4_odds_37 : decode cX4_odds 37 = .ok (.getfield 93, 3) := dk_180 0 93 (dk_at dksX4_odds_1 13 rfl rfl)
theorem dX4_odds_40 : decode cX4_odds 40 = .ok (.i2l, 1) := dk_133 (dk_at dksX4_odds_1 16 rfl rfl)
theorem dX4_odds_41 : decode cX4_odds 41 = .ok (.putfield 358, 3) := dk_181 1 102 (dk_at dksX4_odds_1 17 rfl rfl)
theorem dX4_odds_44 : decode cX4_odds 44 = .ok (.aload_n 0, 1) := dk_42 (dk_at dksX4_odds_1 20 rfl rfl)
theorem dX4_odds_45 : decode cX4_odds 45 = .ok (.aload_n 0, 1) := dk_42 (dk_at dksX4_odds_1 21 rfl rfl)
theorem dX4_odds_46 : decode cX4_odds 46 = .ok (.getfield 96, 3) := dk_180 0 96 (dk_at dksX4_odds_2 0 rfl rfl)
theorem dX4_odds_49 : decode cX4_odds 49 = .ok (.i2l, 1) := dk_133 (dk_at dksX4_odds_2 3 rfl rfl)
theorem dX4_odds_50 : decode cX4_odds 50 = .ok (.putfield 362, 3) := dk_181 1 106 (dk_at dksX4_odds_2 4 rfl rfl)
theorem dX4_odds_53 : decode cX4_odds 53 = .ok (.aload_n 0, 1) := dk_42 (dk_at dksX4_odds_2 7 rfl rfl)
theorem dX4_odds_54 : decode cX4_odds 54 = .ok (.invokevirtual 371, 3) := dk_182 1 115 (dk_at dksX4_odds_2 8 rfl rfl)
theorem dX4_odds_57 : decode cX4_odds 57 = .ok (.iload_n 2, 1) := dk_28 (dk_at dksX4_odds_2 11 rfl rfl)
theorem dX4_odds_58 : decode cX4_odds 58 = .ok (.iconst 2, 1) := dk_5 (dk_at dksX4_odds_2 12 rfl rfl)
theorem dX4_odds_59 : decode cX4_odds 59 = .ok (.if_icmp .ne 82, 3) := dk_160 0 82 (dk_at dksX4_odds_2 13 rfl rfl)
theorem dX4_odds_62 : decode cX4_odds 62 = .ok (.iconst 0, 1) := dk_3 (dk_at dksX4_odds_2 16 rfl rfl)
theorem dX4_odds_63 : decode cX4_odds 63 = .ok (.istore 4, 2) := dk_54 4 (dk_at dksX4_odds_2 17 rfl rfl)
theorem dX4_odds_65 : decode cX4_odds 65 = .ok (.iload 4, 2) := dk_21 4 (dk_at dksX4_odds_2 19 rfl rfl)
theorem dX4_odds_67 : decode cX4_odds 67 = .ok (.aload_n 0, 1) := dk_42 (dk_at dksX4_odds_2 21 rfl rfl)
theorem dX4_odds_68 : decode cX4_odds 68 = .ok (.getfield 201, 3) := dk_180 0 201 (dk_at dksX4_odds_3 0 rfl rfl)
theorem dX4_odds_71 : decode cX4_odds 71 = .ok (.if_icmp .ge 67, 3) := dk_162 0 67 (dk_at dksX4_odds_3 3 rfl rfl)
theorem dX4_odds_74 : decode cX4_odds 74 = .ok (.aload_n 0, 1) := dk_42 (dk_at dksX4_odds_3 6 rfl rfl)
theorem dX4_odds_75 : decode cX4_odds 75 = .ok (.getfield 66, 3) := dk_180 0 66 (dk_at dksX4_odds_3 7 rfl rfl)
theorem dX4_odds_78 : decode cX4_odds 78 = .ok (.iload 4, 2) := dk_21 4 (dk_at dksX4_odds_3 10 rfl rfl)
theorem dX4_odds_80 : decode cX4_odds 80 = .ok (.iaload, 1) := dk_46 (dk_at dksX4_odds_3 12 rfl rfl)
theorem dX4_odds_81 : decode cX4_odds 81 = .ok (.iload_n 1, 1) := dk_27 (dk_at dksX4_odds_3 13 rfl rfl)
theorem dX4_odds_82 : decode cX4_odds 82 = .ok (.if_icmp .ne 50, 3) := dk_160 0 50 (dk_at dksX4_odds_3 14 rfl rfl)
theorem dX4_odds_85 : decode cX4_odds 85 = .ok (.aload_n 0, 1) := dk_42 (dk_at dksX4_odds_3 17 rfl rfl)
theorem dX4_odds_86 : decode cX4_odds 86 = .ok (.iload 4, 2) := dk_21 4 (dk_at dksX4_odds_3 18 rfl rfl)
theorem dX4_odds_88 : decode cX4_odds 88 = .ok (.invokevirtual 376, 3) := dk_182 1 120 (dk_at dksX4_odds_3 20 rfl rfl)
theorem dX4_odds_91 : decode cX4_odds 91 = .ok (.ifCond .eq 41, 3) := dk_153 0 41 (dk_at dksX4_odds_4 0 rfl rfl)
theorem dX4_odds_94 : decode cX4_odds 94 = .ok (.aload_n 0, 1) := dk_42 (dk_at dksX4_odds_4 3 rfl rfl)
theorem dX4_odds_95 : decode cX4_odds 95 = .ok (.aload_n 0, 1) := dk_42 (dk_at dksX4_odds_4 4 rfl rfl)
theorem dX4_odds_96 : decode cX4_odds 96 = .ok (.getfield 69, 3) := dk_180 0 69 (dk_at dksX4_odds_4 5 rfl rfl)
theorem dX4_odds_99 : decode cX4_odds 99 = .ok (.iload 4, 2) := dk_21 4 (dk_at dksX4_odds_4 8 rfl rfl)
theorem dX4_odds_101 : decode cX4_odds 101 = .ok (.iaload, 1) := dk_46 (dk_at dksX4_odds_4 10 rfl rfl)
theorem dX4_odds_102 : decode cX4_odds 102 = .ok (.aload_n 0, 1) := dk_42 (dk_at dksX4_odds_4 11 rfl rfl)
theorem dX4_odds_103 : decode cX4_odds 103 = .ok (.getfield 72, 3) := dk_180 0 72 (dk_at dksX4_odds_4 12 rfl rfl)
theorem dX4_odds_106 : decode cX4_odds 106 = .ok (.iload 4, 2) := dk_21 4 (dk_at dksX4_odds_4 15 rfl rfl)
theorem dX4_odds_108 : decode cX4_odds 108 = .ok (.iaload, 1) := dk_46 (dk_at dksX4_odds_4 17 rfl rfl)
theorem dX4_odds_109 : decode cX4_odds 109 = .ok (.aload_n 0, 1) := dk_42 (dk_at dksX4_odds_4 18 rfl rfl)
theorem dX4_odds_110 : decode cX4_odds 110 = .ok (.getfield 26, 3) := dk_180 0 26 (dk_at dksX4_odds_4 19 rfl rfl)
theorem dX4_odds_113 : decode cX4_odds 113 = .ok (.aload_n 0, 1) := dk_42 (dk_at dksX4_odds_4 22 rfl rfl)
theorem dX4_odds_114 : decode cX4_odds 114 = .ok (.getfield 69, 3) := dk_180 0 69 (dk_at dksX4_odds_5 0 rfl rfl)
theorem dX4_odds_117 : decode cX4_odds 117 = .ok (.iload 4, 2) := dk_21 4 (dk_at dksX4_odds_5 3 rfl rfl)
theorem dX4_odds_119 : decode cX4_odds 119 = .ok (.iaload, 1) := dk_46 (dk_at dksX4_odds_5 5 rfl rfl)
theorem dX4_odds_120 : decode cX4_odds 120 = .ok (.iaload, 1) := dk_46 (dk_at dksX4_odds_5 6 rfl rfl)
theorem dX4_odds_121 : decode cX4_odds 121 = .ok (.if_icmp .ne 7, 3) := dk_160 0 7 (dk_at dksX4_odds_5 7 rfl rfl)
theorem dX4_odds_124 : decode cX4_odds 124 = .ok (.iconst 1, 1) := dk_4 (dk_at dksX4_odds_5 10 rfl rfl)
theorem dX4_odds_125 : decode cX4_odds 125 = .ok (.goto 4, 3) := dk_167 0 4 (dk_at dksX4_odds_5 11 rfl rfl)
theorem dX4_odds_128 : decode cX4_odds 128 = .ok (.iconst 0, 1) := dk_3 (dk_at dksX4_odds_5 14 rfl rfl)
theorem dX4_odds_129 : decode cX4_odds 129 = .ok (.invokevirtual 379, 3) := dk_182 1 123 (dk_at dksX4_odds_5 15 rfl rfl)
theorem dX4_odds_132 : decode cX4_odds 132 = .ok (.iinc 4 1, 3) := dk_132 4 1 (dk_at dksX4_odds_5 18 rfl rfl)
theorem dX4_odds_135 : decode cX4_odds 135 = .ok (.goto (-70), 3) := dk_167 255 186 (dk_at dksX4_odds_5 21 rfl rfl)
theorem dX4_odds_138 : decode cX4_odds 138 = .ok (.goto 91, 3) := dk_167 0 91 (dk_at dksX4_odds_6 0 rfl rfl)
theorem dX4_odds_141 : decode cX4_odds 141 = .ok (.iconst 0, 1) := dk_3 (dk_at dksX4_odds_6 3 rfl rfl)
theorem dX4_odds_142 : decode cX4_odds 142 = .ok (.istore 4, 2) := dk_54 4 (dk_at dksX4_odds_6 4 rfl rfl)
theorem dX4_odds_144 : decode cX4_odds 144 = .ok (.iload 4, 2) := dk_21 4 (dk_at dksX4_odds_6 6 rfl rfl)
theorem dX4_odds_146 : decode cX4_odds 146 = .ok (.aload_n 0, 1) := dk_42 (dk_at dksX4_odds_6 8 rfl rfl)
theorem dX4_odds_147 : decode cX4_odds 147 = .ok (.getfield 198, 3) := dk_180 0 198 (dk_at dksX4_odds_6 9 rfl rfl)
theorem dX4_odds_150 : decode cX4_odds 150 = .ok (.if_icmp .ge 79, 3) := dk_162 0 79 (dk_at dksX4_odds_6 12 rfl rfl)
theorem dX4_odds_153 : decode cX4_odds 153 = .ok (.aload_n 0, 1) := dk_42 (dk_at dksX4_odds_6 15 rfl rfl)
theorem dX4_odds_154 : decode cX4_odds 154 = .ok (.iload 4, 2) := dk_21 4 (dk_at dksX4_odds_6 16 rfl rfl)
theorem dX4_odds_156 : decode cX4_odds 156 = .ok (.invokevirtual 321, 3) := dk_182 1 65 (dk_at dksX4_odds_6 18 rfl rfl)
theorem dX4_odds_159 : decode cX4_odds 159 = .ok (.ifCond .eq 64, 3) := dk_153 0 64 (dk_at dksX4_odds_6 21 rfl rfl)
theorem dX4_odds_162 : decode cX4_odds 162 = .ok (.aload_n 0, 1) := dk_42 (dk_at dksX4_odds_7 0 rfl rfl)
theorem dX4_odds_163 : decode cX4_odds 163 = .ok (.getfield 54, 3) := dk_180 0 54 (dk_at dksX4_odds_7 1 rfl rfl)
theorem dX4_odds_166 : decode cX4_odds 166 = .ok (.iload 4, 2) := dk_21 4 (dk_at dksX4_odds_7 4 rfl rfl)
theorem dX4_odds_168 : decode cX4_odds 168 = .ok (.iaload, 1) := dk_46 (dk_at dksX4_odds_7 6 rfl rfl)
theorem dX4_odds_169 : decode cX4_odds 169 = .ok (.iload_n 1, 1) := dk_27 (dk_at dksX4_odds_7 7 rfl rfl)
theorem dX4_odds_170 : decode cX4_odds 170 = .ok (.if_icmp .eq 6, 3) := dk_159 0 6 (dk_at dksX4_odds_7 8 rfl rfl)
theorem dX4_odds_173 : decode cX4_odds 173 = .ok (.goto 50, 3) := dk_167 0 50 (dk_at dksX4_odds_7 11 rfl rfl)
theorem dX4_odds_176 : decode cX4_odds 176 = .ok (.aload_n 0, 1) := dk_42 (dk_at dksX4_odds_7 14 rfl rfl)
theorem dX4_odds_177 : decode cX4_odds 177 = .ok (.iload 4, 2) := dk_21 4 (dk_at dksX4_odds_7 15 rfl rfl)
theorem dX4_odds_179 : decode cX4_odds 179 = .ok (.invokevirtual 355, 3) := dk_182 1 99 (dk_at dksX4_odds_7 17 rfl rfl)
theorem dX4_odds_182 : decode cX4_odds 182 = .ok (.istore 5, 2) := dk_54 5 (dk_at dksX4_odds_7 20 rfl rfl)
theorem dX4_odds_184 : decode cX4_odds 184 = .ok (.iload 5, 2) := dk_21 5 (dk_at dksX4_odds_7 22 rfl rfl)
theorem dX4_odds_186 : decode cX4_odds 186 = .ok (.bipush 14, 2) := dk_16 14 (dk_at dksX4_odds_8 0 rfl rfl)
theorem dX4_odds_188 : decode cX4_odds 188 = .ok (.iand, 1) := dk_126 (dk_at dksX4_odds_8 2 rfl rfl)
theorem dX4_odds_189 : decode cX4_odds 189 = .ok (.iconst 2, 1) := dk_5 (dk_at dksX4_odds_8 3 rfl rfl)
theorem dX4_odds_190 : decode cX4_odds 190 = .ok (.if_icmp .ne 33, 3) := dk_160 0 33 (dk_at dksX4_odds_8 4 rfl rfl)
theorem dX4_odds_193 : decode cX4_odds 193 = .ok (.iload_n 2, 1) := dk_28 (dk_at dksX4_odds_8 7 rfl rfl)
theorem dX4_odds_194 : decode cX4_odds 194 = .ok (.iconst 1, 1) := dk_4 (dk_at dksX4_odds_8 8 rfl rfl)
theorem dX4_odds_195 : decode cX4_odds 195 = .ok (.if_icmp .eq 11, 3) := dk_159 0 11 (dk_at dksX4_odds_8 9 rfl rfl)
theorem dX4_odds_198 : decode cX4_odds 198 = .ok (.iload 5, 2) := dk_21 5 (dk_at dksX4_odds_8 12 rfl rfl)
theorem dX4_odds_200 : decode cX4_odds 200 = .ok (.bipush 16, 2) := dk_16 16 (dk_at dksX4_odds_8 14 rfl rfl)
theorem dX4_odds_202 : decode cX4_odds 202 = .ok (.iand, 1) := dk_126 (dk_at dksX4_odds_8 16 rfl rfl)
theorem dX4_odds_203 : decode cX4_odds 203 = .ok (.ifCond .ne 20, 3) := dk_154 0 20 (dk_at dksX4_odds_8 17 rfl rfl)
theorem dX4_odds_206 : decode cX4_odds 206 = .ok (.aload_n 0, 1) := dk_42 (dk_at dksX4_odds_8 20 rfl rfl)
theorem dX4_odds_207 : decode cX4_odds 207 = .ok (.aload_n 0, 1) := dk_42 (dk_at dksX4_odds_8 21 rfl rfl)
theorem dX4_odds_208 : decode cX4_odds 208 = .ok (.getfield 60, 3) := dk_180 0 60 (dk_at dksX4_odds_9 0 rfl rfl)
theorem dX4_odds_211 : decode cX4_odds 211 = .ok (.iload 4, 2) := dk_21 4 (dk_at dksX4_odds_9 3 rfl rfl)
theorem dX4_odds_213 : decode cX4_odds 213 = .ok (.iaload, 1) := dk_46 (dk_at dksX4_odds_9 5 rfl rfl)
theorem dX4_odds_214 : decode cX4_odds 214 = .ok (.aload_n 0, 1) := dk_42 (dk_at dksX4_odds_9 6 rfl rfl)
theorem dX4_odds_215 : decode cX4_odds 215 = .ok (.iload 4, 2) := dk_21 4 (dk_at dksX4_odds_9 7 rfl rfl)
theorem dX4_odds_217 : decode cX4_odds 217 = .ok (.invokevirtual 343, 3) := dk_182 1 87 (dk_at dksX4_odds_9 9 rfl rfl)
theorem dX4_odds_220 : decode cX4_odds 220 = .ok (.invokevirtual 379, 3) := dk_182 1 123 (dk_at dksX4_odds_9 12 rfl rfl)
theorem dX4_odds_223 : decode cX4_odds 223 = .ok (.iinc 4 1, 3) := dk_132 4 1 (dk_at dksX4_odds_9 15 rfl rfl)
theorem dX4_odds_226 : decode cX4_odds 226 = .ok (.goto (-82), 3) := dk_167 255 174 (dk_at dksX4_odds_9 18 rfl rfl)
theorem dX4_odds_229 : decode cX4_odds 229 = .ok (.iload_n 3, 1) := dk_29 (dk_at dksX4_odds_9 21 rfl rfl)
theorem dX4_odds_230 : decode cX4_odds 230 = .ok (.ifCond .ne 10, 3) := dk_154 0 10 (dk_at dksX4_odds_10 0 rfl rfl)
theorem dX4_odds_233 : decode cX4_odds 233 = .ok (.aload_n 0, 1) := dk_42 (dk_at dksX4_odds_10 3 rfl rfl)
theorem dX4_odds_234 : decode cX4_odds 234 = .ok (.getfield 358, 3) := dk_180 1 102 (dk_at dksX4_odds_10 4 rfl rfl)
theorem dX4_odds_237 : decode cX4_odds 237 = .ok (.goto 7, 3) := dk_167 0 7 (dk_at dksX4_odds_10 7 rfl rfl)
theorem dX4_odds_240 : decode cX4_odds 240 = .ok (.aload_n 0, 1) := dk_42 (dk_at dksX4_odds_10 10 rfl rfl)
theorem dX4_odds_241 : decode cX4_odds 241 = .ok (.getfield 362, 3) := dk_180 1 106 (dk_at dksX4_odds_10 11 rfl rfl)
theorem dX4_odds_244 : decode cX4_odds 244 = .ok (.lreturn, 1) := dk_173 (dk_at dksX4_odds_10 14 rfl rfl)
abbrev cX4_least : ByteArray := prog_18_method_67_code
def yX4_least : MethodName := ⟨RX4, "least", "()V"⟩
def dkwX4_least_1 : List UInt8 := [180, 1, 106, 31, 109, 181, 1, 106, 177]
abbrev dktX4_least_1 : List UInt8 := dkwX4_least_1 ++ []
def dkwX4_least_0 : List UInt8 := [42, 180, 1, 102, 42, 180, 1, 106, 184, 1, 109, 64, 42, 89, 180, 1, 102, 31, 109, 181, 1, 102, 42, 89]
abbrev dktX4_least_0 : List UInt8 := dkwX4_least_0 ++ dktX4_least_1
theorem dksX4_least_0 : cX4_least.data.toList.drop 0 = dktX4_least_0 := by decide +kernel
theorem dksX4_least_1 : cX4_least.data.toList.drop 24 = dktX4_least_1 := dk_seg dksX4_least_0 24 rfl rfl
theorem dX4_least_0 : decode cX4_least 0 = .ok (.aload_n 0, 1) := dk_42 (dk_at dksX4_least_0 0 rfl rfl)
theorem dX4_least_1 : decode cX4_least 1 = .ok (.getfield 358, 3) := dk_180 1 102 (dk_at dksX4_least_0 1 rfl rfl)
theorem dX4_least_4 : decode cX4_least 4 = .ok (.aload_n 0, 1) := dk_42 (dk_at dksX4_least_0 4 rfl rfl)
theorem dX4_least_5 : decode cX4_least 5 = .ok (.getfield 362, 3) := dk_180 1 106 (dk_at dksX4_least_0 5 rfl rfl)
theorem dX4_least_8 : decode cX4_least 8 = .ok (.invokestatic 365, 3) := dk_184 1 109 (dk_at dksX4_least_0 8 rfl rfl)
theorem dX4_least_11 : decode cX4_least 11 = .ok (.lstore_n 1, 1) := dk_64 (dk_at dksX4_least_0 11 rfl rfl)
theorem dX4_least_12 : decode cX4_least 12 = .ok (.aload_n 0, 1) := dk_42 (dk_at dksX4_least_0 12 rfl rfl)
theorem dX4_least_13 : decode cX4_least 13 = .ok (.dup, 1) := dk_89 (dk_at dksX4_least_0 13 rfl rfl)
theorem dX4_least_14 : decode cX4_least 14 = .ok (.getfield 358, 3) := dk_180 1 102 (dk_at dksX4_least_0 14 rfl rfl)
theorem dX4_least_17 : decode cX4_least 17 = .ok (.lload_n 1, 1) := dk_31 (dk_at dksX4_least_0 17 rfl rfl)
theorem dX4_least_18 : decode cX4_least 18 = .ok (.ldiv, 1) := dk_109 (dk_at dksX4_least_0 18 rfl rfl)
theorem dX4_least_19 : decode cX4_least 19 = .ok (.putfield 358, 3) := dk_181 1 102 (dk_at dksX4_least_0 19 rfl rfl)
theorem dX4_least_22 : decode cX4_least 22 = .ok (.aload_n 0, 1) := dk_42 (dk_at dksX4_least_0 22 rfl rfl)
theorem dX4_least_23 : decode cX4_least 23 = .ok (.dup, 1) := dk_89 (dk_at dksX4_least_0 23 rfl rfl)
theorem dX4_least_24 : decode cX4_least 24 = .ok (.getfield 362, 3) := dk_180 1 106 (dk_at dksX4_least_1 0 rfl rfl)
theorem dX4_least_27 : decode cX4_least 27 = .ok (.lload_n 1, 1) := dk_31 (dk_at dksX4_least_1 3 rfl rfl)
theorem dX4_least_28 : decode cX4_least 28 = .ok (.ldiv, 1) := dk_109 (dk_at dksX4_least_1 4 rfl rfl)
theorem dX4_least_29 : decode cX4_least 29 = .ok (.putfield 362, 3) := dk_181 1 106 (dk_at dksX4_least_1 5 rfl rfl)
theorem dX4_least_32 : decode cX4_least 32 = .ok (.return_, 1) := dk_177 (dk_at dksX4_least_1 8 rfl rfl)
abbrev cX4_common : ByteArray := prog_18_method_66_code
def yX4_common : MethodName := ⟨RX4, "common", "(JJ)J"⟩
def dkwX4_common_1 : List UInt8 := [22, 8, 55, 6, 167, 255, 234, 22, 4, 173]
abbrev dktX4_common_1 : List UInt8 := dkwX4_common_1 ++ []
def dkwX4_common_0 : List UInt8 := [30, 55, 4, 32, 55, 6, 22, 6, 9, 148, 153, 0, 21, 22, 4, 22, 6, 113, 55, 8, 22, 6, 55, 4]
abbrev dktX4_common_0 : List UInt8 := dkwX4_common_0 ++ dktX4_common_1
theorem dksX4_common_0 : cX4_common.data.toList.drop 0 = dktX4_common_0 := by decide +kernel
theorem dksX4_common_1 : cX4_common.data.toList.drop 24 = dktX4_common_1 := dk_seg dksX4_common_0 24 rfl rfl
theorem dX4_common_0 : decode cX4_common 0 = .ok (.lload_n 0, 1) := dk_30 (dk_at dksX4_common_0 0 rfl rfl)
theorem dX4_common_1 : decode cX4_common 1 = .ok (.lstore 4, 2) := dk_55 4 (dk_at dksX4_common_0 1 rfl rfl)
theorem dX4_common_3 : decode cX4_common 3 = .ok (.lload_n 2, 1) := dk_32 (dk_at dksX4_common_0 3 rfl rfl)
theorem dX4_common_4 : decode cX4_common 4 = .ok (.lstore 6, 2) := dk_55 6 (dk_at dksX4_common_0 4 rfl rfl)
theorem dX4_common_6 : decode cX4_common 6 = .ok (.lload 6, 2) := dk_22 6 (dk_at dksX4_common_0 6 rfl rfl)
theorem dX4_common_8 : decode cX4_common 8 = .ok (.lconst 0, 1) := dk_9 (dk_at dksX4_common_0 8 rfl rfl)
theorem dX4_common_9 : decode cX4_common 9 = .ok (.lcmp, 1) := dk_148 (dk_at dksX4_common_0 9 rfl rfl)
theorem dX4_common_10 : decode cX4_common 10 = .ok (.ifCond .eq 21, 3) := dk_153 0 21 (dk_at dksX4_common_0 10 rfl rfl)
theorem dX4_common_13 : decode cX4_common 13 = .ok (.lload 4, 2) := dk_22 4 (dk_at dksX4_common_0 13 rfl rfl)
theorem dX4_common_15 : decode cX4_common 15 = .ok (.lload 6, 2) := dk_22 6 (dk_at dksX4_common_0 15 rfl rfl)
theorem dX4_common_17 : decode cX4_common 17 = .ok (.lrem, 1) := dk_113 (dk_at dksX4_common_0 17 rfl rfl)
theorem dX4_common_18 : decode cX4_common 18 = .ok (.lstore 8, 2) := dk_55 8 (dk_at dksX4_common_0 18 rfl rfl)
theorem dX4_common_20 : decode cX4_common 20 = .ok (.lload 6, 2) := dk_22 6 (dk_at dksX4_common_0 20 rfl rfl)
theorem dX4_common_22 : decode cX4_common 22 = .ok (.lstore 4, 2) := dk_55 4 (dk_at dksX4_common_0 22 rfl rfl)
theorem dX4_common_24 : decode cX4_common 24 = .ok (.lload 8, 2) := dk_22 8 (dk_at dksX4_common_1 0 rfl rfl)
theorem dX4_common_26 : decode cX4_common 26 = .ok (.lstore 6, 2) := dk_55 6 (dk_at dksX4_common_1 2 rfl rfl)
theorem dX4_common_28 : decode cX4_common 28 = .ok (.goto (-22), 3) := dk_167 255 234 (dk_at dksX4_common_1 4 rfl rfl)
theorem dX4_common_31 : decode cX4_common 31 = .ok (.lload 4, 2) := dk_22 4 (dk_at dksX4_common_1 7 rfl rfl)
theorem dX4_common_33 : decode cX4_common 33 = .ok (.lreturn, 1) := dk_173 (dk_at dksX4_common_1 9 rfl rfl)
abbrev cX4_isFirstLine : ByteArray := prog_18_method_71_code
def yX4_isFirstLine : MethodName := ⟨RX4, "isFirstLine", "(I)Z"⟩
def dkwX4_isFirstLine_1 : List UInt8 := [180, 0, 69, 28, 46, 42, 180, 0, 69, 27, 46, 160, 0, 5, 3, 172, 132, 2, 1, 167, 255, 216, 4, 172]
abbrev dktX4_isFirstLine_1 : List UInt8 := dkwX4_isFirstLine_1 ++ []
def dkwX4_isFirstLine_0 : List UInt8 := [3, 61, 28, 27, 162, 0, 41, 42, 180, 0, 66, 28, 46, 42, 180, 0, 66, 27, 46, 160, 0, 20, 42]
abbrev dktX4_isFirstLine_0 : List UInt8 := dkwX4_isFirstLine_0 ++ dktX4_isFirstLine_1
theorem dksX4_isFirstLine_0 : cX4_isFirstLine.data.toList.drop 0 = dktX4_isFirstLine_0 := by decide +kernel
theorem dksX4_isFirstLine_1 : cX4_isFirstLine.data.toList.drop 23 = dktX4_isFirstLine_1 := dk_seg dksX4_isFirstLine_0 23 rfl rfl
theorem dX4_isFirstLine_0 : decode cX4_isFirstLine 0 = .ok (.iconst 0, 1) := dk_3 (dk_at dksX4_isFirstLine_0 0 rfl rfl)
theorem dX4_isFirstLine_1 : decode cX4_isFirstLine 1 = .ok (.istore_n 2, 1) := dk_61 (dk_at dksX4_isFirstLine_0 1 rfl rfl)
theorem dX4_isFirstLine_2 : decode cX4_isFirstLine 2 = .ok (.iload_n 2, 1) := dk_28 (dk_at dksX4_isFirstLine_0 2 rfl rfl)
theorem dX4_isFirstLine_3 : decode cX4_isFirstLine 3 = .ok (.iload_n 1, 1) := dk_27 (dk_at dksX4_isFirstLine_0 3 rfl rfl)
theorem dX4_isFirstLine_4 : decode cX4_isFirstLine 4 = .ok (.if_icmp .ge 41, 3) := dk_162 0 41 (dk_at dksX4_isFirstLine_0 4 rfl rfl)
theorem dX4_isFirstLine_7 : decode cX4_isFirstLine 7 = .ok (.aload_n 0, 1) := dk_42 (dk_at dksX4_isFirstLine_0 7 rfl rfl)
theorem dX4_isFirstLine_8 : decode cX4_isFirstLine 8 = .ok (.getfield 66, 3) := dk_180 0 66 (dk_at dksX4_isFirstLine_0 8 rfl rfl)
theorem dX4_isFirstLine_11 : decode cX4_isFirstLine 11 = .ok (.iload_n 2, 1) := dk_28 (dk_at dksX4_isFirstLine_0 11 rfl rfl)
theorem dX4_isFirstLine_12 : decode cX4_isFirstLine 12 = .ok (.iaload, 1) := dk_46 (dk_at dksX4_isFirstLine_0 12 rfl rfl)
theorem dX4_isFirstLine_13 : decode cX4_isFirstLine 13 = .ok (.aload_n 0, 1) := dk_42 (dk_at dksX4_isFirstLine_0 13 rfl rfl)
theorem dX4_isFirstLine_14 : decode cX4_isFirstLine 14 = .ok (.getfield 66, 3) := dk_180 0 66 (dk_at dksX4_isFirstLine_0 14 rfl rfl)
theorem dX4_isFirstLine_17 : decode cX4_isFirstLine 17 = .ok (.iload_n 1, 1) := dk_27 (dk_at dksX4_isFirstLine_0 17 rfl rfl)
theorem dX4_isFirstLine_18 : decode cX4_isFirstLine 18 = .ok (.iaload, 1) := dk_46 (dk_at dksX4_isFirstLine_0 18 rfl rfl)
theorem dX4_isFirstLine_19 : decode cX4_isFirstLine 19 = .ok (.if_icmp .ne 20, 3) := dk_160 0 20 (dk_at dksX4_isFirstLine_0 19 rfl rfl)
theorem dX4_isFirstLine_22 : decode cX4_isFirstLine 22 = .ok (.aload_n 0, 1) := dk_42 (dk_at dksX4_isFirstLine_0 22 rfl rfl)
theorem dX4_isFirstLine_23 : decode cX4_isFirstLine 23 = .ok (.getfield 69, 3) := dk_180 0 69 (dk_at dksX4_isFirstLine_1 0 rfl rfl)
theorem dX4_isFirstLine_26 : decode cX4_isFirstLine 26 = .ok (.iload_n 2, 1) := dk_28 (dk_at dksX4_isFirstLine_1 3 rfl rfl)
theorem dX4_isFirstLine_27 : decode cX4_isFirstLine 27 = .ok (.iaload, 1) := dk_46 (dk_at dksX4_isFirstLine_1 4 rfl rfl)
theorem dX4_isFirstLine_28 : decode cX4_isFirstLine 28 = .ok (.aload_n 0, 1) := dk_42 (dk_at dksX4_isFirstLine_1 5 rfl rfl)
theorem dX4_isFirstLine_29 : decode cX4_isFirstLine 29 = .ok (.getfield 69, 3) := dk_180 0 69 (dk_at dksX4_isFirstLine_1 6 rfl rfl)
theorem dX4_isFirstLine_32 : decode cX4_isFirstLine 32 = .ok (.iload_n 1, 1) := dk_27 (dk_at dksX4_isFirstLine_1 9 rfl rfl)
theorem dX4_isFirstLine_33 : decode cX4_isFirstLine 33 = .ok (.iaload, 1) := dk_46 (dk_at dksX4_isFirstLine_1 10 rfl rfl)
theorem dX4_isFirstLine_34 : decode cX4_isFirstLine 34 = .ok (.if_icmp .ne 5, 3) := dk_160 0 5 (dk_at dksX4_isFirstLine_1 11 rfl rfl)
theorem dX4_isFirstLine_37 : decode cX4_isFirstLine 37 = .ok (.iconst 0, 1) := dk_3 (dk_at dksX4_isFirstLine_1 14 rfl rfl)
theorem dX4_isFirstLine_38 : decode cX4_isFirstLine 38 = .ok (.ireturn, 1) := dk_172 (dk_at dksX4_isFirstLine_1 15 rfl rfl)
theorem dX4_isFirstLine_39 : decode cX4_isFirstLine 39 = .ok (.iinc 2 1, 3) := dk_132 2 1 (dk_at dksX4_isFirstLine_1 16 rfl rfl)
theorem dX4_isFirstLine_42 : decode cX4_isFirstLine 42 = .ok (.goto (-40), 3) := dk_167 255 216 (dk_at dksX4_isFirstLine_1 19 rfl rfl)
theorem dX4_isFirstLine_45 : decode cX4_isFirstLine 45 = .ok (.iconst 1, 1) := dk_4 (dk_at dksX4_isFirstLine_1 22 rfl rfl)
theorem dX4_isFirstLine_46 : decode cX4_isFirstLine 46 = .ok (.ireturn, 1) := dk_172 (dk_at dksX4_isFirstLine_1 23 rfl rfl)
abbrev cX4_weighs : ByteArray := prog_18_method_68_code
def yX4_weighs : MethodName := ⟨RX4, "weighs", "(IZ)V"⟩
def dkwX4_weighs_3 : List UInt8 := [20, 1, 113, 42, 180, 0, 23, 27, 46, 4, 100, 133, 105, 105, 181, 1, 106, 42, 182, 1, 115, 177]
abbrev dktX4_weighs_3 : List UInt8 := dkwX4_weighs_3 ++ []
def dkwX4_weighs_2 : List UInt8 := [16, 10, 42, 180, 0, 90, 100, 42, 180, 0, 23, 27, 46, 104, 133, 105, 181, 1, 102, 42, 89, 180, 1, 106]
abbrev dktX4_weighs_2 : List UInt8 := dkwX4_weighs_2 ++ dktX4_weighs_3
def dkwX4_weighs_1 : List UInt8 := [181, 1, 102, 42, 89, 180, 1, 106, 20, 1, 113, 105, 181, 1, 106, 167, 0, 49, 42, 89, 180, 1, 102]
abbrev dktX4_weighs_1 : List UInt8 := dkwX4_weighs_1 ++ dktX4_weighs_2
def dkwX4_weighs_0 : List UInt8 := [28, 153, 0, 39, 42, 89, 180, 1, 102, 42, 180, 0, 90, 42, 180, 0, 23, 27, 46, 104, 133, 105]
abbrev dktX4_weighs_0 : List UInt8 := dkwX4_weighs_0 ++ dktX4_weighs_1
theorem dksX4_weighs_0 : cX4_weighs.data.toList.drop 0 = dktX4_weighs_0 := by decide +kernel
theorem dksX4_weighs_1 : cX4_weighs.data.toList.drop 22 = dktX4_weighs_1 := dk_seg dksX4_weighs_0 22 rfl rfl
theorem dksX4_weighs_2 : cX4_weighs.data.toList.drop 45 = dktX4_weighs_2 := dk_seg dksX4_weighs_1 23 rfl rfl
theorem dksX4_weighs_3 : cX4_weighs.data.toList.drop 69 = dktX4_weighs_3 := dk_seg dksX4_weighs_2 24 rfl rfl
theorem dX4_weighs_0 : decode cX4_weighs 0 = .ok (.iload_n 2, 1) := dk_28 (dk_at dksX4_weighs_0 0 rfl rfl)
theorem dX4_weighs_1 : decode cX4_weighs 1 = .ok (.ifCond .eq 39, 3) := dk_153 0 39 (dk_at dksX4_weighs_0 1 rfl rfl)
theorem dX4_weighs_4 : decode cX4_weighs 4 = .ok (.aload_n 0, 1) := dk_42 (dk_at dksX4_weighs_0 4 rfl rfl)
theorem dX4_weighs_5 : decode cX4_weighs 5 = .ok (.dup, 1) := dk_89 (dk_at dksX4_weighs_0 5 rfl rfl)
theorem dX4_weighs_6 : decode cX4_weighs 6 = .ok (.getfield 358, 3) := dk_180 1 102 (dk_at dksX4_weighs_0 6 rfl rfl)
theorem dX4_weighs_9 : decode cX4_weighs 9 = .ok (.aload_n 0, 1) := dk_42 (dk_at dksX4_weighs_0 9 rfl rfl)
theorem dX4_weighs_10 : decode cX4_weighs 10 = .ok (.getfield 90, 3) := dk_180 0 90 (dk_at dksX4_weighs_0 10 rfl rfl)
theorem dX4_weighs_13 : decode cX4_weighs 13 = .ok (.aload_n 0, 1) := dk_42 (dk_at dksX4_weighs_0 13 rfl rfl)
theorem dX4_weighs_14 : decode cX4_weighs 14 = .ok (.getfield 23, 3) := dk_180 0 23 (dk_at dksX4_weighs_0 14 rfl rfl)
theorem dX4_weighs_17 : decode cX4_weighs 17 = .ok (.iload_n 1, 1) := dk_27 (dk_at dksX4_weighs_0 17 rfl rfl)
theorem dX4_weighs_18 : decode cX4_weighs 18 = .ok (.iaload, 1) := dk_46 (dk_at dksX4_weighs_0 18 rfl rfl)
theorem dX4_weighs_19 : decode cX4_weighs 19 = .ok (.imul, 1) := dk_104 (dk_at dksX4_weighs_0 19 rfl rfl)
theorem dX4_weighs_20 : decode cX4_weighs 20 = .ok (.i2l, 1) := dk_133 (dk_at dksX4_weighs_0 20 rfl rfl)
theorem dX4_weighs_21 : decode cX4_weighs 21 = .ok (.lmul, 1) := dk_105 (dk_at dksX4_weighs_0 21 rfl rfl)
theorem dX4_weighs_22 : decode cX4_weighs 22 = .ok (.putfield 358, 3) := dk_181 1 102 (dk_at dksX4_weighs_1 0 rfl rfl)
theorem dX4_weighs_25 : decode cX4_weighs 25 = .ok (.aload_n 0, 1) := dk_42 (dk_at dksX4_weighs_1 3 rfl rfl)
theorem dX4_weighs_26 : decode cX4_weighs 26 = .ok (.dup, 1) := dk_89 (dk_at dksX4_weighs_1 4 rfl rfl)
theorem dX4_weighs_27 : decode cX4_weighs 27 = .ok (.getfield 362, 3) := dk_180 1 106 (dk_at dksX4_weighs_1 5 rfl rfl)
theorem dX4_weighs_30 : decode cX4_weighs 30 = .ok (.ldc2_w 369, 3) := dk_20 1 113 (dk_at dksX4_weighs_1 8 rfl rfl)
theorem dX4_weighs_33 : decode cX4_weighs 33 = .ok (.lmul, 1) := dk_105 (dk_at dksX4_weighs_1 11 rfl rfl)
theorem dX4_weighs_34 : decode cX4_weighs 34 = .ok (.putfield 362, 3) := dk_181 1 106 (dk_at dksX4_weighs_1 12 rfl rfl)
theorem dX4_weighs_37 : decode cX4_weighs 37 = .ok (.goto 49, 3) := dk_167 0 49 (dk_at dksX4_weighs_1 15 rfl rfl)
theorem dX4_weighs_40 : decode cX4_weighs 40 = .ok (.aload_n 0, 1) := dk_42 (dk_at dksX4_weighs_1 18 rfl rfl)
theorem dX4_weighs_41 : decode cX4_weighs 41 = .ok (.dup, 1) := dk_89 (dk_at dksX4_weighs_1 19 rfl rfl)
theorem dX4_weighs_42 : decode cX4_weighs 42 = .ok (.getfield 358, 3) := dk_180 1 102 (dk_at dksX4_weighs_1 20 rfl rfl)
theorem dX4_weighs_45 : decode cX4_weighs 45 = .ok (.bipush 10, 2) := dk_16 10 (dk_at dksX4_weighs_2 0 rfl rfl)
theorem dX4_weighs_47 : decode cX4_weighs 47 = .ok (.aload_n 0, 1) := dk_42 (dk_at dksX4_weighs_2 2 rfl rfl)
theorem dX4_weighs_48 : decode cX4_weighs 48 = .ok (.getfield 90, 3) := dk_180 0 90 (dk_at dksX4_weighs_2 3 rfl rfl)
theorem dX4_weighs_51 : decode cX4_weighs 51 = .ok (.isub, 1) := dk_100 (dk_at dksX4_weighs_2 6 rfl rfl)
theorem dX4_weighs_52 : decode cX4_weighs 52 = .ok (.aload_n 0, 1) := dk_42 (dk_at dksX4_weighs_2 7 rfl rfl)
theorem dX4_weighs_53 : decode cX4_weighs 53 = .ok (.getfield 23, 3) := dk_180 0 23 (dk_at dksX4_weighs_2 8 rfl rfl)
theorem dX4_weighs_56 : decode cX4_weighs 56 = .ok (.iload_n 1, 1) := dk_27 (dk_at dksX4_weighs_2 11 rfl rfl)
theorem dX4_weighs_57 : decode cX4_weighs 57 = .ok (.iaload, 1) := dk_46 (dk_at dksX4_weighs_2 12 rfl rfl)
theorem dX4_weighs_58 : decode cX4_weighs 58 = .ok (.imul, 1) := dk_104 (dk_at dksX4_weighs_2 13 rfl rfl)
theorem dX4_weighs_59 : decode cX4_weighs 59 = .ok (.i2l, 1) := dk_133 (dk_at dksX4_weighs_2 14 rfl rfl)
theorem dX4_weighs_60 : decode cX4_weighs 60 = .ok (.lmul, 1) := dk_105 (dk_at dksX4_weighs_2 15 rfl rfl)
theorem dX4_weighs_61 : decode cX4_weighs 61 = .ok (.putfield 358, 3) := dk_181 1 102 (dk_at dksX4_weighs_2 16 rfl rfl)
theorem dX4_weighs_64 : decode cX4_weighs 64 = .ok (.aload_n 0, 1) := dk_42 (dk_at dksX4_weighs_2 19 rfl rfl)
theorem dX4_weighs_65 : decode cX4_weighs 65 = .ok (.dup, 1) := dk_89 (dk_at dksX4_weighs_2 20 rfl rfl)
theorem dX4_weighs_66 : decode cX4_weighs 66 = .ok (.getfield 362, 3) := dk_180 1 106 (dk_at dksX4_weighs_2 21 rfl rfl)
theorem dX4_weighs_69 : decode cX4_weighs 69 = .ok (.ldc2_w 369, 3) := dk_20 1 113 (dk_at dksX4_weighs_3 0 rfl rfl)
theorem dX4_weighs_72 : decode cX4_weighs 72 = .ok (.aload_n 0, 1) := dk_42 (dk_at dksX4_weighs_3 3 rfl rfl)
theorem dX4_weighs_73 : decode cX4_weighs 73 = .ok (.getfield 23, 3) := dk_180 0 23 (dk_at dksX4_weighs_3 4 rfl rfl)
theorem dX4_weighs_76 : decode cX4_weighs 76 = .ok (.iload_n 1, 1) := dk_27 (dk_at dksX4_weighs_3 7 rfl rfl)
theorem dX4_weighs_77 : decode cX4_weighs 77 = .ok (.iaload, 1) := dk_46 (dk_at dksX4_weighs_3 8 rfl rfl)
theorem dX4_weighs_78 : decode cX4_weighs 78 = .ok (.iconst 1, 1) := dk_4 (dk_at dksX4_weighs_3 9 rfl rfl)
theorem dX4_weighs_79 : decode cX4_weighs 79 = .ok (.isub, 1) := dk_100 (dk_at dksX4_weighs_3 10 rfl rfl)
theorem dX4_weighs_80 : decode cX4_weighs 80 = .ok (.i2l, 1) := dk_133 (dk_at dksX4_weighs_3 11 rfl rfl)
theorem dX4_weighs_81 : decode cX4_weighs 81 = .ok (.lmul, 1) := dk_105 (dk_at dksX4_weighs_3 12 rfl rfl)
theorem dX4_weighs_82 : decode cX4_weighs 82 = .ok (.lmul, 1) := dk_105 (dk_at dksX4_weighs_3 13 rfl rfl)
theorem dX4_weighs_83 : decode cX4_weighs 83 = .ok (.putfield 362, 3) := dk_181 1 106 (dk_at dksX4_weighs_3 14 rfl rfl)
theorem dX4_weighs_86 : decode cX4_weighs 86 = .ok (.aload_n 0, 1) := dk_42 (dk_at dksX4_weighs_3 17 rfl rfl)
theorem dX4_weighs_87 : decode cX4_weighs 87 = .ok (.invokevirtual 371, 3) := dk_182 1 115 (dk_at dksX4_weighs_3 18 rfl rfl)
theorem dX4_weighs_90 : decode cX4_weighs 90 = .ok (.return_, 1) := dk_177 (dk_at dksX4_weighs_3 21 rfl rfl)
abbrev cX4_page : ByteArray := prog_18_method_76_code
def yX4_page : MethodName := ⟨RX4, "page", "(I)I"⟩
def dkwX4_page_1 : List UInt8 := [182, 1, 133, 172]
abbrev dktX4_page_1 : List UInt8 := dkwX4_page_1 ++ []
def dkwX4_page_0 : List UInt8 := [42, 3, 181, 0, 124, 27, 155, 0, 11, 27, 42, 180, 0, 201, 161, 0, 7, 2, 167, 0, 8, 42, 27]
abbrev dktX4_page_0 : List UInt8 := dkwX4_page_0 ++ dktX4_page_1
theorem dksX4_page_0 : cX4_page.data.toList.drop 0 = dktX4_page_0 := by decide +kernel
theorem dksX4_page_1 : cX4_page.data.toList.drop 23 = dktX4_page_1 := dk_seg dksX4_page_0 23 rfl rfl
theorem dX4_page_0 : decode cX4_page 0 = .ok (.aload_n 0, 1) := dk_42 (dk_at dksX4_page_0 0 rfl rfl)
theorem dX4_page_1 : decode cX4_page 1 = .ok (.iconst 0, 1) := dk_3 (dk_at dksX4_page_0 1 rfl rfl)
theorem dX4_page_2 : decode cX4_page 2 = .ok (.putfield 124, 3) := dk_181 0 124 (dk_at dksX4_page_0 2 rfl rfl)
theorem dX4_page_5 : decode cX4_page 5 = .ok (.iload_n 1, 1) := dk_27 (dk_at dksX4_page_0 5 rfl rfl)
theorem dX4_page_6 : decode cX4_page 6 = .ok (.ifCond .lt 11, 3) := dk_155 0 11 (dk_at dksX4_page_0 6 rfl rfl)
theorem dX4_page_9 : decode cX4_page 9 = .ok (.iload_n 1, 1) := dk_27 (dk_at dksX4_page_0 9 rfl rfl)
theorem dX4_page_10 : decode cX4_page 10 = .ok (.aload_n 0, 1) := dk_42 (dk_at dksX4_page_0 10 rfl rfl)
theorem dX4_page_11 : decode cX4_page 11 = .ok (.getfield 201, 3) := dk_180 0 201 (dk_at dksX4_page_0 11 rfl rfl)
theorem dX4_page_14 : decode cX4_page 14 = .ok (.if_icmp .lt 7, 3) := dk_161 0 7 (dk_at dksX4_page_0 14 rfl rfl)
theorem dX4_page_17 : decode cX4_page 17 = .ok (.iconst (-1), 1) := dk_2 (dk_at dksX4_page_0 17 rfl rfl)
theorem dX4_page_18 : decode cX4_page 18 = .ok (.goto 8, 3) := dk_167 0 8 (dk_at dksX4_page_0 18 rfl rfl)
theorem dX4_page_21 : decode cX4_page 21 = .ok (.aload_n 0, 1) := dk_42 (dk_at dksX4_page_0 21 rfl rfl)
theorem dX4_page_22 : decode cX4_page 22 = .ok (.iload_n 1, 1) := dk_27 (dk_at dksX4_page_0 22 rfl rfl)
theorem dX4_page_23 : decode cX4_page 23 = .ok (.invokevirtual 389, 3) := dk_182 1 133 (dk_at dksX4_page_1 0 rfl rfl)
theorem dX4_page_26 : decode cX4_page 26 = .ok (.ireturn, 1) := dk_172 (dk_at dksX4_page_1 3 rfl rfl)
abbrev cX4_pageIs : ByteArray := prog_18_method_75_code
def yX4_pageIs : MethodName := ⟨RX4, "pageIs", "(I)I"⟩
def dkwX4_pageIs_2 : List UInt8 := [180, 0, 69, 27, 46, 42, 180, 0, 72, 27, 46, 182, 1, 130, 155, 0, 7, 4, 167, 0, 4, 5, 172]
abbrev dktX4_pageIs_2 : List UInt8 := dkwX4_pageIs_2 ++ []
def dkwX4_pageIs_1 : List UInt8 := [180, 0, 63, 28, 46, 42, 180, 0, 72, 27, 46, 160, 0, 5, 3, 172, 42, 42, 180, 0, 66, 27, 46, 42]
abbrev dktX4_pageIs_1 : List UInt8 := dkwX4_pageIs_1 ++ dktX4_pageIs_2
def dkwX4_pageIs_0 : List UInt8 := [42, 42, 180, 0, 66, 27, 46, 42, 180, 0, 69, 27, 46, 182, 1, 127, 61, 28, 156, 0, 5, 6, 172, 42]
abbrev dktX4_pageIs_0 : List UInt8 := dkwX4_pageIs_0 ++ dktX4_pageIs_1
theorem dksX4_pageIs_0 : cX4_pageIs.data.toList.drop 0 = dktX4_pageIs_0 := by decide +kernel
theorem dksX4_pageIs_1 : cX4_pageIs.data.toList.drop 24 = dktX4_pageIs_1 := dk_seg dksX4_pageIs_0 24 rfl rfl
theorem dksX4_pageIs_2 : cX4_pageIs.data.toList.drop 48 = dktX4_pageIs_2 := dk_seg dksX4_pageIs_1 24 rfl rfl
theorem dX4_pageIs_0 : decode cX4_pageIs 0 = .ok (.aload_n 0, 1) := dk_42 (dk_at dksX4_pageIs_0 0 rfl rfl)
theorem dX4_pageIs_1 : decode cX4_pageIs 1 = .ok (.aload_n 0, 1) := dk_42 (dk_at dksX4_pageIs_0 1 rfl rfl)
theorem dX4_pageIs_2 : decode cX4_pageIs 2 = .ok (.getfield 66, 3) := dk_180 0 66 (dk_at dksX4_pageIs_0 2 rfl rfl)
theorem dX4_pageIs_5 : decode cX4_pageIs 5 = .ok (.iload_n 1, 1) := dk_27 (dk_at dksX4_pageIs_0 5 rfl rfl)
theorem dX4_pageIs_6 : decode cX4_pageIs 6 = .ok (.iaload, 1) := dk_46 (dk_at dksX4_pageIs_0 6 rfl rfl)
theorem dX4_pageIs_7 : decode cX4_pageIs 7 = .ok (.aload_n 0, 1) := dk_42 (dk_at dksX4_pageIs_0 7 rfl rfl)
theorem dX4_pageIs_8 : decode cX4_pageIs 8 = .ok (.getfield 69, 3) := dk_180 0 69 (dk_at dksX4_pageIs_0 8 rfl rfl)
theorem dX4_pageIs_11 : decode cX4_pageIs 11 = .ok (.iload_n 1, 1) := dk_27 (dk_at dksX4_pageIs_0 11 rfl rfl)
theorem dX4_pageIs_12 : decode cX4_pageIs 12 = .ok (.iaload, 1) := dk_46 (dk_at dksX4_pageIs_0 12 rfl rfl)
theorem dX4_pageIs_13 : decode cX4_pageIs 13 = .ok (.invokevirtual 383, 3) := dk_182 1 127 (dk_at dksX4_pageIs_0 13 rfl rfl)
theorem dX4_pageIs_16 : decode cX4_pageIs 16 = .ok (.istore_n 2, 1) := dk_61 (dk_at dksX4_pageIs_0 16 rfl rfl)
theorem dX4_pageIs_17 : decode cX4_pageIs 17 = .ok (.iload_n 2, 1) := dk_28 (dk_at dksX4_pageIs_0 17 rfl rfl)
theorem dX4_pageIs_18 : decode cX4_pageIs 18 = .ok (.ifCond .ge 5, 3) := dk_156 0 5 (dk_at dksX4_pageIs_0 18 rfl rfl)
theorem dX4_pageIs_21 : decode cX4_pageIs 21 = .ok (.iconst 3, 1) := dk_6 (dk_at dksX4_pageIs_0 21 rfl rfl)
theorem dX4_pageIs_22 : decode cX4_pageIs 22 = .ok (.ireturn, 1) := dk_172 (dk_at dksX4_pageIs_0 22 rfl rfl)
theorem dX4_pageIs_23 : decode cX4_pageIs 23 = .ok (.aload_n 0, 1) := dk_42 (dk_at dksX4_pageIs_0 23 rfl rfl)
theorem dX4_pageIs_24 : decode cX4_pageIs 24 = .ok (.getfield 63, 3) := dk_180 0 63 (dk_at dksX4_pageIs_1 0 rfl rfl)
theorem dX4_pageIs_27 : decode cX4_pageIs 27 = .ok (.iload_n 2, 1) := dk_28 (dk_at dksX4_pageIs_1 3 rfl rfl)
theorem dX4_pageIs_28 : decode cX4_pageIs 28 = .ok (.iaload, 1) := dk_46 (dk_at dksX4_pageIs_1 4 rfl rfl)
theorem dX4_pageIs_29 : decode cX4_pageIs 29 = .ok (.aload_n 0, 1) := dk_42 (dk_at dksX4_pageIs_1 5 rfl rfl)
theorem dX4_pageIs_30 : decode cX4_pageIs 30 = .ok (.getfield 72, 3) := dk_180 0 72 (dk_at dksX4_pageIs_1 6 rfl rfl)
theorem dX4_pageIs_33 : decode cX4_pageIs 33 = .ok (.iload_n 1, 1) := dk_27 (dk_at dksX4_pageIs_1 9 rfl rfl)
theorem dX4_pageIs_34 : decode cX4_pageIs 34 = .ok (.iaload, 1) := dk_46 (dk_at dksX4_pageIs_1 10 rfl rfl)
theorem dX4_pageIs_35 : decode cX4_pageIs 35 = .ok (.if_icmp .ne 5, 3) := dk_160 0 5 (dk_at dksX4_pageIs_1 11 rfl rfl)
theorem dX4_pageIs_38 : decode cX4_pageIs 38 = .ok (.iconst 0, 1) := dk_3 (dk_at dksX4_pageIs_1 14 rfl rfl)
theorem dX4_pageIs_39 : decode cX4_pageIs 39 = .ok (.ireturn, 1) := dk_172 (dk_at dksX4_pageIs_1 15 rfl rfl)
theorem dX4_pageIs_40 : decode cX4_pageIs 40 = .ok (.aload_n 0, 1) := dk_42 (dk_at dksX4_pageIs_1 16 rfl rfl)
theorem dX4_pageIs_41 : decode cX4_pageIs 41 = .ok (.aload_n 0, 1) := dk_42 (dk_at dksX4_pageIs_1 17 rfl rfl)
theorem dX4_pageIs_42 : decode cX4_pageIs 42 = .ok (.getfield 66, 3) := dk_180 0 66 (dk_at dksX4_pageIs_1 18 rfl rfl)
theorem dX4_pageIs_45 : decode cX4_pageIs 45 = .ok (.iload_n 1, 1) := dk_27 (dk_at dksX4_pageIs_1 21 rfl rfl)
theorem dX4_pageIs_46 : decode cX4_pageIs 46 = .ok (.iaload, 1) := dk_46 (dk_at dksX4_pageIs_1 22 rfl rfl)
theorem dX4_pageIs_47 : decode cX4_pageIs 47 = .ok (.aload_n 0, 1) := dk_42 (dk_at dksX4_pageIs_1 23 rfl rfl)
theorem dX4_pageIs_48 : decode cX4_pageIs 48 = .ok (.getfield 69, 3) := dk_180 0 69 (dk_at dksX4_pageIs_2 0 rfl rfl)
theorem dX4_pageIs_51 : decode cX4_pageIs 51 = .ok (.iload_n 1, 1) := dk_27 (dk_at dksX4_pageIs_2 3 rfl rfl)
theorem dX4_pageIs_52 : decode cX4_pageIs 52 = .ok (.iaload, 1) := dk_46 (dk_at dksX4_pageIs_2 4 rfl rfl)
theorem dX4_pageIs_53 : decode cX4_pageIs 53 = .ok (.aload_n 0, 1) := dk_42 (dk_at dksX4_pageIs_2 5 rfl rfl)
theorem dX4_pageIs_54 : decode cX4_pageIs 54 = .ok (.getfield 72, 3) := dk_180 0 72 (dk_at dksX4_pageIs_2 6 rfl rfl)
theorem dX4_pageIs_57 : decode cX4_pageIs 57 = .ok (.iload_n 1, 1) := dk_27 (dk_at dksX4_pageIs_2 9 rfl rfl)
theorem dX4_pageIs_58 : decode cX4_pageIs 58 = .ok (.iaload, 1) := dk_46 (dk_at dksX4_pageIs_2 10 rfl rfl)
theorem dX4_pageIs_59 : decode cX4_pageIs 59 = .ok (.invokevirtual 386, 3) := dk_182 1 130 (dk_at dksX4_pageIs_2 11 rfl rfl)
theorem dX4_pageIs_62 : decode cX4_pageIs 62 = .ok (.ifCond .lt 7, 3) := dk_155 0 7 (dk_at dksX4_pageIs_2 14 rfl rfl)
theorem dX4_pageIs_65 : decode cX4_pageIs 65 = .ok (.iconst 1, 1) := dk_4 (dk_at dksX4_pageIs_2 17 rfl rfl)
theorem dX4_pageIs_66 : decode cX4_pageIs 66 = .ok (.goto 4, 3) := dk_167 0 4 (dk_at dksX4_pageIs_2 18 rfl rfl)
theorem dX4_pageIs_69 : decode cX4_pageIs 69 = .ok (.iconst 2, 1) := dk_5 (dk_at dksX4_pageIs_2 21 rfl rfl)
theorem dX4_pageIs_70 : decode cX4_pageIs 70 = .ok (.ireturn, 1) := dk_172 (dk_at dksX4_pageIs_2 22 rfl rfl)
abbrev cX4_latestWord : ByteArray := prog_18_method_73_code
def yX4_latestWord : MethodName := ⟨RX4, "latestWord", "(II)I"⟩
def dkwX4_latestWord_1 : List UInt8 := [153, 0, 8, 21, 4, 167, 0, 4, 29, 62, 132, 4, 1, 167, 255, 226, 29, 172]
abbrev dktX4_latestWord_1 : List UInt8 := dkwX4_latestWord_1 ++ []
def dkwX4_latestWord_0 : List UInt8 := [2, 62, 3, 54, 4, 21, 4, 42, 180, 0, 198, 162, 0, 27, 42, 21, 4, 27, 28, 182, 1, 75]
abbrev dktX4_latestWord_0 : List UInt8 := dkwX4_latestWord_0 ++ dktX4_latestWord_1
theorem dksX4_latestWord_0 : cX4_latestWord.data.toList.drop 0 = dktX4_latestWord_0 := by decide +kernel
theorem dksX4_latestWord_1 : cX4_latestWord.data.toList.drop 22 = dktX4_latestWord_1 := dk_seg dksX4_latestWord_0 22 rfl rfl
theorem dX4_latestWord_0 : decode cX4_latestWord 0 = .ok (.iconst (-1), 1) := dk_2 (dk_at dksX4_latestWord_0 0 rfl rfl)
theorem dX4_latestWord_1 : decode cX4_latestWord 1 = .ok (.istore_n 3, 1) := dk_62 (dk_at dksX4_latestWord_0 1 rfl rfl)
theorem dX4_latestWord_2 : decode cX4_latestWord 2 = .ok (.iconst 0, 1) := dk_3 (dk_at dksX4_latestWord_0 2 rfl rfl)
theorem dX4_latestWord_3 : decode cX4_latestWord 3 = .ok (.istore 4, 2) := dk_54 4 (dk_at dksX4_latestWord_0 3 rfl rfl)
theorem dX4_latestWord_5 : decode cX4_latestWord 5 = .ok (.iload 4, 2) := dk_21 4 (dk_at dksX4_latestWord_0 5 rfl rfl)
theorem dX4_latestWord_7 : decode cX4_latestWord 7 = .ok (.aload_n 0, 1) := dk_42 (dk_at dksX4_latestWord_0 7 rfl rfl)
theorem dX4_latestWord_8 : decode cX4_latestWord 8 = .ok (.getfield 198, 3) := dk_180 0 198 (dk_at dksX4_latestWord_0 8 rfl rfl)
theorem dX4_latestWord_11 : decode cX4_latestWord 11 = .ok (.if_icmp .ge 27, 3) := dk_162 0 27 (dk_at dksX4_latestWord_0 11 rfl rfl)
theorem dX4_latestWord_14 : decode cX4_latestWord 14 = .ok (.aload_n 0, 1) := dk_42 (dk_at dksX4_latestWord_0 14 rfl rfl)
theorem dX4_latestWord_15 : decode cX4_latestWord 15 = .ok (.iload 4, 2) := dk_21 4 (dk_at dksX4_latestWord_0 15 rfl rfl)
theorem dX4_latestWord_17 : decode cX4_latestWord 17 = .ok (.iload_n 1, 1) := dk_27 (dk_at dksX4_latestWord_0 17 rfl rfl)
theorem dX4_latestWord_18 : decode cX4_latestWord 18 = .ok (.iload_n 2, 1) := dk_28 (dk_at dksX4_latestWord_0 18 rfl rfl)
theorem dX4_latestWord_19 : decode cX4_latestWord 19 = .ok (.invokevirtual 331, 3) := dk_182 1 75 (dk_at dksX4_latestWord_0 19 rfl rfl)
theorem dX4_latestWord_22 : decode cX4_latestWord 22 = .ok (.ifCond .eq 8, 3) := dk_153 0 8 (dk_at dksX4_latestWord_1 0 rfl rfl)
theorem dX4_latestWord_25 : decode cX4_latestWord 25 = .ok (.iload 4, 2) := dk_21 4 (dk_at dksX4_latestWord_1 3 rfl rfl)
theorem dX4_latestWord_27 : decode cX4_latestWord 27 = .ok (.goto 4, 3) := dk_167 0 4 (dk_at dksX4_latestWord_1 5 rfl rfl)
theorem dX4_latestWord_30 : decode cX4_latestWord 30 = .ok (.iload_n 3, 1) := dk_29 (dk_at dksX4_latestWord_1 8 rfl rfl)
theorem dX4_latestWord_31 : decode cX4_latestWord 31 = .ok (.istore_n 3, 1) := dk_62 (dk_at dksX4_latestWord_1 9 rfl rfl)
theorem dX4_latestWord_32 : decode cX4_latestWord 32 = .ok (.iinc 4 1, 3) := dk_132 4 1 (dk_at dksX4_latestWord_1 10 rfl rfl)
theorem dX4_latestWord_35 : decode cX4_latestWord 35 = .ok (.goto (-30), 3) := dk_167 255 226 (dk_at dksX4_latestWord_1 13 rfl rfl)
theorem dX4_latestWord_38 : decode cX4_latestWord 38 = .ok (.iload_n 3, 1) := dk_29 (dk_at dksX4_latestWord_1 16 rfl rfl)
theorem dX4_latestWord_39 : decode cX4_latestWord 39 = .ok (.ireturn, 1) := dk_172 (dk_at dksX4_latestWord_1 17 rfl rfl)
abbrev cX4_firstSaid : ByteArray := prog_18_method_74_code
def yX4_firstSaid : MethodName := ⟨RX4, "firstSaid", "(III)I"⟩
def dkwX4_firstSaid_1 : List UInt8 := [180, 0, 63, 21, 4, 46, 29, 160, 0, 6, 21, 4, 172, 132, 4, 1, 167, 255, 219, 2, 172]
abbrev dktX4_firstSaid_1 : List UInt8 := dkwX4_firstSaid_1 ++ []
def dkwX4_firstSaid_0 : List UInt8 := [3, 54, 4, 21, 4, 42, 180, 0, 198, 162, 0, 34, 42, 21, 4, 27, 28, 182, 1, 75, 153, 0, 17, 42]
abbrev dktX4_firstSaid_0 : List UInt8 := dkwX4_firstSaid_0 ++ dktX4_firstSaid_1
theorem dksX4_firstSaid_0 : cX4_firstSaid.data.toList.drop 0 = dktX4_firstSaid_0 := by decide +kernel
theorem dksX4_firstSaid_1 : cX4_firstSaid.data.toList.drop 24 = dktX4_firstSaid_1 := dk_seg dksX4_firstSaid_0 24 rfl rfl
theorem dX4_firstSaid_0 : decode cX4_firstSaid 0 = .ok (.iconst 0, 1) := dk_3 (dk_at dksX4_firstSaid_0 0 rfl rfl)
theorem dX4_firstSaid_1 : decode cX4_firstSaid 1 = .ok (.istore 4, 2) := dk_54 4 (dk_at dksX4_firstSaid_0 1 rfl rfl)
theorem dX4_firstSaid_3 : decode cX4_firstSaid 3 = .ok (.iload 4, 2) := dk_21 4 (dk_at dksX4_firstSaid_0 3 rfl rfl)
theorem dX4_firstSaid_5 : decode cX4_firstSaid 5 = .ok (.aload_n 0, 1) := dk_42 (dk_at dksX4_firstSaid_0 5 rfl rfl)
theorem dX4_firstSaid_6 : decode cX4_firstSaid 6 = .ok (.getfield 198, 3) := dk_180 0 198 (dk_at dksX4_firstSaid_0 6 rfl rfl)
theorem dX4_firstSaid_9 : decode cX4_firstSaid 9 = .ok (.if_icmp .ge 34, 3) := dk_162 0 34 (dk_at dksX4_firstSaid_0 9 rfl rfl)
theorem dX4_firstSaid_12 : decode cX4_firstSaid 12 = .ok (.aload_n 0, 1) := dk_42 (dk_at dksX4_firstSaid_0 12 rfl rfl)
theorem dX4_firstSaid_13 : decode cX4_firstSaid 13 = .ok (.iload 4, 2) := dk_21 4 (dk_at dksX4_firstSaid_0 13 rfl rfl)
theorem dX4_firstSaid_15 : decode cX4_firstSaid 15 = .ok (.iload_n 1, 1) := dk_27 (dk_at dksX4_firstSaid_0 15 rfl rfl)
theorem dX4_firstSaid_16 : decode cX4_firstSaid 16 = .ok (.iload_n 2, 1) := dk_28 (dk_at dksX4_firstSaid_0 16 rfl rfl)
theorem dX4_firstSaid_17 : decode cX4_firstSaid 17 = .ok (.invokevirtual 331, 3) := dk_182 1 75 (dk_at dksX4_firstSaid_0 17 rfl rfl)
theorem dX4_firstSaid_20 : decode cX4_firstSaid 20 = .ok (.ifCond .eq 17, 3) := dk_153 0 17 (dk_at dksX4_firstSaid_0 20 rfl rfl)
theorem dX4_firstSaid_23 : decode cX4_firstSaid 23 = .ok (.aload_n 0, 1) := dk_42 (dk_at dksX4_firstSaid_0 23 rfl rfl)
theorem dX4_firstSaid_24 : decode cX4_firstSaid 24 = .ok (.getfield 63, 3) := dk_180 0 63 (dk_at dksX4_firstSaid_1 0 rfl rfl)
theorem dX4_firstSaid_27 : decode cX4_firstSaid 27 = .ok (.iload 4, 2) := dk_21 4 (dk_at dksX4_firstSaid_1 3 rfl rfl)
theorem dX4_firstSaid_29 : decode cX4_firstSaid 29 = .ok (.iaload, 1) := dk_46 (dk_at dksX4_firstSaid_1 5 rfl rfl)
theorem dX4_firstSaid_30 : decode cX4_firstSaid 30 = .ok (.iload_n 3, 1) := dk_29 (dk_at dksX4_firstSaid_1 6 rfl rfl)
theorem dX4_firstSaid_31 : decode cX4_firstSaid 31 = .ok (.if_icmp .ne 6, 3) := dk_160 0 6 (dk_at dksX4_firstSaid_1 7 rfl rfl)
theorem dX4_firstSaid_34 : decode cX4_firstSaid 34 = .ok (.iload 4, 2) := dk_21 4 (dk_at dksX4_firstSaid_1 10 rfl rfl)
theorem dX4_firstSaid_36 : decode cX4_firstSaid 36 = .ok (.ireturn, 1) := dk_172 (dk_at dksX4_firstSaid_1 12 rfl rfl)
theorem dX4_firstSaid_37 : decode cX4_firstSaid 37 = .ok (.iinc 4 1, 3) := dk_132 4 1 (dk_at dksX4_firstSaid_1 13 rfl rfl)
theorem dX4_firstSaid_40 : decode cX4_firstSaid 40 = .ok (.goto (-37), 3) := dk_167 255 219 (dk_at dksX4_firstSaid_1 16 rfl rfl)
theorem dX4_firstSaid_43 : decode cX4_firstSaid 43 = .ok (.iconst (-1), 1) := dk_2 (dk_at dksX4_firstSaid_1 19 rfl rfl)
theorem dX4_firstSaid_44 : decode cX4_firstSaid 44 = .ok (.ireturn, 1) := dk_172 (dk_at dksX4_firstSaid_1 20 rfl rfl)
abbrev cX4_left : ByteArray := prog_18_method_78_code
def yX4_left : MethodName := ⟨RX4, "left", "(I)I"⟩
def dkwX4_left_3 : List UInt8 := [154, 0, 7, 4, 167, 0, 4, 3, 96, 61, 132, 3, 1, 167, 255, 191, 28, 172]
abbrev dktX4_left_3 : List UInt8 := dkwX4_left_3 ++ []
def dkwX4_left_2 : List UInt8 := [182, 1, 87, 154, 0, 27, 42, 27, 42, 180, 0, 60, 29, 46, 42, 180, 0, 63, 29, 46, 182, 1, 136]
abbrev dktX4_left_2 : List UInt8 := dkwX4_left_2 ++ dktX4_left_3
def dkwX4_left_1 : List UInt8 := [162, 0, 63, 28, 42, 29, 182, 1, 65, 153, 0, 45, 42, 180, 0, 54, 29, 46, 27, 160, 0, 35, 42, 29]
abbrev dktX4_left_1 : List UInt8 := dkwX4_left_1 ++ dktX4_left_2
def dkwX4_left_0 : List UInt8 := [42, 3, 181, 0, 124, 42, 27, 182, 1, 59, 154, 0, 5, 2, 172, 3, 61, 3, 62, 29, 42, 180, 0, 198]
abbrev dktX4_left_0 : List UInt8 := dkwX4_left_0 ++ dktX4_left_1
theorem dksX4_left_0 : cX4_left.data.toList.drop 0 = dktX4_left_0 := by decide +kernel
theorem dksX4_left_1 : cX4_left.data.toList.drop 24 = dktX4_left_1 := dk_seg dksX4_left_0 24 rfl rfl
theorem dksX4_left_2 : cX4_left.data.toList.drop 48 = dktX4_left_2 := dk_seg dksX4_left_1 24 rfl rfl
theorem dksX4_left_3 : cX4_left.data.toList.drop 71 = dktX4_left_3 := dk_seg dksX4_left_2 23 rfl rfl
theorem dX4_left_0 : decode cX4_left 0 = .ok (.aload_n 0, 1) := dk_42 (dk_at dksX4_left_0 0 rfl rfl)
theorem dX4_left_1 : decode cX4_left 1 = .ok (.iconst 0, 1) := dk_3 (dk_at dksX4_left_0 1 rfl rfl)
theorem dX4_left_2 : decode cX4_left 2 = .ok (.putfield 124, 3) := dk_181 0 124 (dk_at dksX4_left_0 2 rfl rfl)
theorem dX4_left_5 : decode cX4_left 5 = .ok (.aload_n 0, 1) := dk_42 (dk_at dksX4_left_0 5 rfl rfl)
theorem dX4_left_6 : decode cX4_left 6 = .ok (.iload_n 1, 1) := dk_27 (dk_at dksX4_left_0 6 rfl rfl)
theorem dX4_left_7 : decode cX4_left 7 = .ok (.invokevirtual 315, 3) := dk_182 1 59 (dk_at dksX4_left_0 7 rfl rfl)
theorem dX4_left_10 : decode cX4_left 10 = .ok (.ifCond .ne 5, 3) := dk_154 0 5 (dk_at dksX4_left_0 10 rfl rfl)
theorem dX4_left_13 : decode cX4_left 13 = .ok (.iconst (-1), 1) := dk_2 (dk_at dksX4_left_0 13 rfl rfl)
theorem dX4_left_14 : decode cX4_left 14 = .ok (.ireturn, 1) := dk_172 (dk_at dksX4_left_0 14 rfl rfl)
theorem dX4_left_15 : decode cX4_left 15 = .ok (.iconst 0, 1) := dk_3 (dk_at dksX4_left_0 15 rfl rfl)
theorem dX4_left_16 : decode cX4_left 16 = .ok (.istore_n 2, 1) := dk_61 (dk_at dksX4_left_0 16 rfl rfl)
theorem dX4_left_17 : decode cX4_left 17 = .ok (.iconst 0, 1) := dk_3 (dk_at dksX4_left_0 17 rfl rfl)
theorem dX4_left_18 : decode cX4_left 18 = .ok (.istore_n 3, 1) := dk_62 (dk_at dksX4_left_0 18 rfl rfl)
theorem dX4_left_19 : decode cX4_left 19 = .ok (.iload_n 3, 1) := dk_29 (dk_at dksX4_left_0 19 rfl rfl)
theorem dX4_left_20 : decode cX4_left 20 = .ok (.aload_n 0, 1) := dk_42 (dk_at dksX4_left_0 20 rfl rfl)
theorem dX4_left_21 : decode cX4_left 21 = .ok (.getfield 198, 3) := dk_180 0 198 (dk_at dksX4_left_0 21 rfl rfl)
theorem dX4_left_24 : decode cX4_left 24 = .ok (.if_icmp .ge 63, 3) := dk_162 0 63 (dk_at dksX4_left_1 0 rfl rfl)
theorem dX4_left_27 : decode cX4_left 27 = .ok (.iload_n 2, 1) := dk_28 (dk_at dksX4_left_1 3 rfl rfl)
theorem dX4_left_28 : decode cX4_left 28 = .ok (.aload_n 0, 1) := dk_42 (dk_at dksX4_left_1 4 rfl rfl)
theorem dX4_left_29 : decode cX4_left 29 = .ok (.iload_n 3, 1) := dk_29 (dk_at dksX4_left_1 5 rfl rfl)
theorem dX4_left_30 : decode cX4_left 30 = .ok (.invokevirtual 321, 3) := dk_182 1 65 (dk_at dksX4_left_1 6 rfl rfl)
theorem dX4_left_33 : decode cX4_left 33 = .ok (.ifCond .eq 45, 3) := dk_153 0 45 (dk_at dksX4_left_1 9 rfl rfl)
theorem dX4_left_36 : decode cX4_left 36 = .ok (.aload_n 0, 1) := dk_42 (dk_at dksX4_left_1 12 rfl rfl)
theorem dX4_left_37 : decode cX4_left 37 = .ok (.getfield 54, 3) := dk_180 0 54 (dk_at dksX4_left_1 13 rfl rfl)
theorem dX4_left_40 : decode cX4_left 40 = .ok (.iload_n 3, 1) := dk_29 (dk_at dksX4_left_1 16 rfl rfl)
theorem dX4_left_41 : decode cX4_left 41 = .ok (.iaload, 1) := dk_46 (dk_at dksX4_left_1 17 rfl rfl)
theorem dX4_left_42 : decode cX4_left 42 = .ok (.iload_n 1, 1) := dk_27 (dk_at dksX4_left_1 18 rfl rfl)
theorem dX4_left_43 : decode cX4_left 43 = .ok (.if_icmp .ne 35, 3) := dk_160 0 35 (dk_at dksX4_left_1 19 rfl rfl)
theorem dX4_left_46 : decode cX4_left 46 = .ok (.aload_n 0, 1) := dk_42 (dk_at dksX4_left_1 22 rfl rfl)
theorem dX4_left_47 : decode cX4_left 47 = .ok (.iload_n 3, 1) := dk_29 (dk_at dksX4_left_1 23 rfl rfl)
theorem dX4_left_48 : decode cX4_left 48 = .ok (.invokevirtual 343, 3) := dk_182 1 87 (dk_at dksX4_left_2 0 rfl rfl)
theorem dX4_left_51 : decode cX4_left 51 = .ok (.ifCond .ne 27, 3) := dk_154 0 27 (dk_at dksX4_left_2 3 rfl rfl)
theorem dX4_left_54 : decode cX4_left 54 = .ok (.aload_n 0, 1) := dk_42 (dk_at dksX4_left_2 6 rfl rfl)
theorem dX4_left_55 : decode cX4_left 55 = .ok (.iload_n 1, 1) := dk_27 (dk_at dksX4_left_2 7 rfl rfl)
theorem dX4_left_56 : decode cX4_left 56 = .ok (.aload_n 0, 1) := dk_42 (dk_at dksX4_left_2 8 rfl rfl)
theorem dX4_left_57 : decode cX4_left 57 = .ok (.getfield 60, 3) := dk_180 0 60 (dk_at dksX4_left_2 9 rfl rfl)
theorem dX4_left_60 : decode cX4_left 60 = .ok (.iload_n 3, 1) := dk_29 (dk_at dksX4_left_2 12 rfl rfl)
theorem dX4_left_61 : decode cX4_left 61 = .ok (.iaload, 1) := dk_46 (dk_at dksX4_left_2 13 rfl rfl)
theorem dX4_left_62 : decode cX4_left 62 = .ok (.aload_n 0, 1) := dk_42 (dk_at dksX4_left_2 14 rfl rfl)
theorem dX4_left_63 : decode cX4_left 63 = .ok (.getfield 63, 3) := dk_180 0 63 (dk_at dksX4_left_2 15 rfl rfl)
theorem dX4_left_66 : decode cX4_left 66 = .ok (.iload_n 3, 1) := dk_29 (dk_at dksX4_left_2 18 rfl rfl)
theorem dX4_left_67 : decode cX4_left 67 = .ok (.iaload, 1) := dk_46 (dk_at dksX4_left_2 19 rfl rfl)
theorem dX4_left_68 : decode cX4_left 68 = .ok (.invokevirtual 392, 3) := dk_182 1 136 (dk_at dksX4_left_2 20 rfl rfl)
theorem dX4_left_71 : decode cX4_left 71 = .ok (.ifCond .ne 7, 3) := dk_154 0 7 (dk_at dksX4_left_3 0 rfl rfl)
theorem dX4_left_74 : decode cX4_left 74 = .ok (.iconst 1, 1) := dk_4 (dk_at dksX4_left_3 3 rfl rfl)
theorem dX4_left_75 : decode cX4_left 75 = .ok (.goto 4, 3) := dk_167 0 4 (dk_at dksX4_left_3 4 rfl rfl)
theorem dX4_left_78 : decode cX4_left 78 = .ok (.iconst 0, 1) := dk_3 (dk_at dksX4_left_3 7 rfl rfl)
theorem dX4_left_79 : decode cX4_left 79 = .ok (.iadd, 1) := dk_96 (dk_at dksX4_left_3 8 rfl rfl)
theorem dX4_left_80 : decode cX4_left 80 = .ok (.istore_n 2, 1) := dk_61 (dk_at dksX4_left_3 9 rfl rfl)
theorem dX4_left_81 : decode cX4_left 81 = .ok (.iinc 3 1, 3) := dk_132 3 1 (dk_at dksX4_left_3 10 rfl rfl)
theorem dX4_left_84 : decode cX4_left 84 = .ok (.goto (-65), 3) := dk_167 255 191 (dk_at dksX4_left_3 13 rfl rfl)
theorem dX4_left_87 : decode cX4_left 87 = .ok (.iload_n 2, 1) := dk_28 (dk_at dksX4_left_3 16 rfl rfl)
theorem dX4_left_88 : decode cX4_left 88 = .ok (.ireturn, 1) := dk_172 (dk_at dksX4_left_3 17 rfl rfl)
abbrev cX4_isOnPage : ByteArray := prog_18_method_77_code
def yX4_isOnPage : MethodName := ⟨RX4, "isOnPage", "(III)Z"⟩
def dkwX4_isOnPage_2 : List UInt8 := [132, 4, 1, 167, 255, 209, 3, 172]
abbrev dktX4_isOnPage_2 : List UInt8 := dkwX4_isOnPage_2 ++ []
def dkwX4_isOnPage_1 : List UInt8 := [180, 0, 69, 21, 4, 46, 28, 160, 0, 16, 42, 180, 0, 72, 21, 4, 46, 29, 160, 0, 5, 4, 172]
abbrev dktX4_isOnPage_1 : List UInt8 := dkwX4_isOnPage_1 ++ dktX4_isOnPage_2
def dkwX4_isOnPage_0 : List UInt8 := [3, 54, 4, 21, 4, 42, 180, 0, 201, 162, 0, 44, 42, 180, 0, 66, 21, 4, 46, 27, 160, 0, 27, 42]
abbrev dktX4_isOnPage_0 : List UInt8 := dkwX4_isOnPage_0 ++ dktX4_isOnPage_1
theorem dksX4_isOnPage_0 : cX4_isOnPage.data.toList.drop 0 = dktX4_isOnPage_0 := by decide +kernel
theorem dksX4_isOnPage_1 : cX4_isOnPage.data.toList.drop 24 = dktX4_isOnPage_1 := dk_seg dksX4_isOnPage_0 24 rfl rfl
theorem dksX4_isOnPage_2 : cX4_isOnPage.data.toList.drop 47 = dktX4_isOnPage_2 := dk_seg dksX4_isOnPage_1 23 rfl rfl
theorem dX4_isOnPage_0 : decode cX4_isOnPage 0 = .ok (.iconst 0, 1) := dk_3 (dk_at dksX4_isOnPage_0 0 rfl rfl)
theorem dX4_isOnPage_1 : decode cX4_isOnPage 1 = .ok (.istore 4, 2) := dk_54 4 (dk_at dksX4_isOnPage_0 1 rfl rfl)
theorem dX4_isOnPage_3 : decode cX4_isOnPage 3 = .ok (.iload 4, 2) := dk_21 4 (dk_at dksX4_isOnPage_0 3 rfl rfl)
theorem dX4_isOnPage_5 : decode cX4_isOnPage 5 = .ok (.aload_n 0, 1) := dk_42 (dk_at dksX4_isOnPage_0 5 rfl rfl)
theorem dX4_isOnPage_6 : decode cX4_isOnPage 6 = .ok (.getfield 201, 3) := dk_180 0 201 (dk_at dksX4_isOnPage_0 6 rfl rfl)
theorem dX4_isOnPage_9 : decode cX4_isOnPage 9 = .ok (.if_icmp .ge 44, 3) := dk_162 0 44 (dk_at dksX4_isOnPage_0 9 rfl rfl)
theorem dX4_isOnPage_12 : decode cX4_isOnPage 12 = .ok (.aload_n 0, 1) := dk_42 (dk_at dksX4_isOnPage_0 12 rfl rfl)
theorem dX4_isOnPage_13 : decode cX4_isOnPage 13 = .ok (.getfield 66, 3) := dk_180 0 66 (dk_at dksX4_isOnPage_0 13 rfl rfl)
theorem dX4_isOnPage_16 : decode cX4_isOnPage 16 = .ok (.iload 4, 2) := dk_21 4 (dk_at dksX4_isOnPage_0 16 rfl rfl)
theorem dX4_isOnPage_18 : decode cX4_isOnPage 18 = .ok (.iaload, 1) := dk_46 (dk_at dksX4_isOnPage_0 18 rfl rfl)
theorem dX4_isOnPage_19 : decode cX4_isOnPage 19 = .ok (.iload_n 1, 1) := dk_27 (dk_at dksX4_isOnPage_0 19 rfl rfl)
theorem dX4_isOnPage_20 : decode cX4_isOnPage 20 = .ok (.if_icmp .ne 27, 3) := dk_160 0 27 (dk_at dksX4_isOnPage_0 20 rfl rfl)
theorem dX4_isOnPage_23 : decode cX4_isOnPage 23 = .ok (.aload_n 0, 1) := dk_42 (dk_at dksX4_isOnPage_0 23 rfl rfl)
theorem dX4_isOnPage_24 : decode cX4_isOnPage 24 = .ok (.getfield 69, 3) := dk_180 0 69 (dk_at dksX4_isOnPage_1 0 rfl rfl)
theorem dX4_isOnPage_27 : decode cX4_isOnPage 27 = .ok (.iload 4, 2) := dk_21 4 (dk_at dksX4_isOnPage_1 3 rfl rfl)
theorem dX4_isOnPage_29 : decode cX4_isOnPage 29 = .ok (.iaload, 1) := dk_46 (dk_at dksX4_isOnPage_1 5 rfl rfl)
theorem dX4_isOnPage_30 : decode cX4_isOnPage 30 = .ok (.iload_n 2, 1) := dk_28 (dk_at dksX4_isOnPage_1 6 rfl rfl)
theorem dX4_isOnPage_31 : decode cX4_isOnPage 31 = .ok (.if_icmp .ne 16, 3) := dk_160 0 16 (dk_at dksX4_isOnPage_1 7 rfl rfl)
theorem dX4_isOnPage_34 : decode cX4_isOnPage 34 = .ok (.aload_n 0, 1) := dk_42 (dk_at dksX4_isOnPage_1 10 rfl rfl)
theorem dX4_isOnPage_35 : decode cX4_isOnPage 35 = .ok (.getfield 72, 3) := dk_180 0 72 (dk_at dksX4_isOnPage_1 11 rfl rfl)
theorem dX4_isOnPage_38 : decode cX4_isOnPage 38 = .ok (.iload 4, 2) := dk_21 4 (dk_at dksX4_isOnPage_1 14 rfl rfl)
theorem dX4_isOnPage_40 : decode cX4_isOnPage 40 = .ok (.iaload, 1) := dk_46 (dk_at dksX4_isOnPage_1 16 rfl rfl)
theorem dX4_isOnPage_41 : decode cX4_isOnPage 41 = .ok (.iload_n 3, 1) := dk_29 (dk_at dksX4_isOnPage_1 17 rfl rfl)
theorem dX4_isOnPage_42 : decode cX4_isOnPage 42 = .ok (.if_icmp .ne 5, 3) := dk_160 0 5 (dk_at dksX4_isOnPage_1 18 rfl rfl)
theorem dX4_isOnPage_45 : decode cX4_isOnPage 45 = .ok (.iconst 1, 1) := dk_4 (dk_at dksX4_isOnPage_1 21 rfl rfl)
theorem dX4_isOnPage_46 : decode cX4_isOnPage 46 = .ok (.ireturn, 1) := dk_172 (dk_at dksX4_isOnPage_1 22 rfl rfl)
theorem dX4_isOnPage_47 : decode cX4_isOnPage 47 = .ok (.iinc 4 1, 3) := dk_132 4 1 (dk_at dksX4_isOnPage_2 0 rfl rfl)
theorem dX4_isOnPage_50 : decode cX4_isOnPage 50 = .ok (.goto (-47), 3) := dk_167 255 209 (dk_at dksX4_isOnPage_2 3 rfl rfl)
theorem dX4_isOnPage_53 : decode cX4_isOnPage 53 = .ok (.iconst 0, 1) := dk_3 (dk_at dksX4_isOnPage_2 6 rfl rfl)
theorem dX4_isOnPage_54 : decode cX4_isOnPage 54 = .ok (.ireturn, 1) := dk_172 (dk_at dksX4_isOnPage_2 7 rfl rfl)
abbrev cX4_moved : ByteArray := prog_18_method_79_code
def yX4_moved : MethodName := ⟨RX4, "moved", "(I)I"⟩
def dkwX4_moved_7 : List UInt8 := [46, 167, 0, 4, 29, 62, 132, 2, 1, 132, 4, 1, 167, 255, 102, 28, 29, 100, 172]
abbrev dktX4_moved_7 : List UInt8 := dkwX4_moved_7 ++ []
def dkwX4_moved_6 : List UInt8 := [4, 96, 79, 132, 5, 1, 167, 255, 200, 42, 180, 0, 108, 28, 46, 29, 164, 0, 12, 42, 180, 0, 108, 28]
abbrev dktX4_moved_6 : List UInt8 := dkwX4_moved_6 ++ dktX4_moved_7
def dkwX4_moved_5 : List UInt8 := [21, 5, 46, 42, 180, 0, 108, 28, 46, 161, 0, 18, 42, 180, 0, 108, 28, 42, 180, 0, 108, 21, 5, 46]
abbrev dktX4_moved_5 : List UInt8 := dkwX4_moved_5 ++ dktX4_moved_6
def dkwX4_moved_4 : List UInt8 := [162, 0, 56, 42, 180, 0, 105, 21, 5, 46, 42, 180, 0, 105, 28, 46, 163, 0, 34, 42, 180, 0, 108]
abbrev dktX4_moved_4 : List UInt8 := dkwX4_moved_4 ++ dktX4_moved_5
def dkwX4_moved_3 : List UInt8 := [180, 0, 72, 21, 4, 46, 182, 1, 130, 79, 42, 180, 0, 108, 28, 4, 79, 3, 54, 5, 21, 5, 28]
abbrev dktX4_moved_3 : List UInt8 := dkwX4_moved_3 ++ dktX4_moved_4
def dkwX4_moved_2 : List UInt8 := [4, 164, 0, 6, 167, 0, 121, 42, 180, 0, 105, 28, 42, 27, 42, 180, 0, 69, 21, 4, 46, 42]
abbrev dktX4_moved_2 : List UInt8 := dkwX4_moved_2 ++ dktX4_moved_3
def dkwX4_moved_1 : List UInt8 := [42, 180, 0, 201, 162, 0, 151, 42, 180, 0, 66, 21, 4, 46, 27, 160, 0, 134, 42, 21, 4, 182, 1, 133]
abbrev dktX4_moved_1 : List UInt8 := dkwX4_moved_1 ++ dktX4_moved_2
def dkwX4_moved_0 : List UInt8 := [42, 3, 181, 0, 124, 42, 27, 182, 1, 59, 154, 0, 5, 2, 172, 3, 61, 3, 62, 3, 54, 4, 21, 4]
abbrev dktX4_moved_0 : List UInt8 := dkwX4_moved_0 ++ dktX4_moved_1
theorem dksX4_moved_0 : cX4_moved.data.toList.drop 0 = dktX4_moved_0 := by decide +kernel
theorem dksX4_moved_1 : cX4_moved.data.toList.drop 24 = dktX4_moved_1 := dk_seg dksX4_moved_0 24 rfl rfl
theorem dksX4_moved_2 : cX4_moved.data.toList.drop 48 = dktX4_moved_2 := dk_seg dksX4_moved_1 24 rfl rfl
theorem dksX4_moved_3 : cX4_moved.data.toList.drop 70 = dktX4_moved_3 := dk_seg dksX4_moved_2 22 rfl rfl
theorem dksX4_moved_4 : cX4_moved.data.toList.drop 93 = dktX4_moved_4 := dk_seg dksX4_moved_3 23 rfl rfl
theorem dksX4_moved_5 : cX4_moved.data.toList.drop 116 = dktX4_moved_5 := dk_seg dksX4_moved_4 23 rfl rfl
theorem dksX4_moved_6 : cX4_moved.data.toList.drop 140 = dktX4_moved_6 := dk_seg dksX4_moved_5 24 rfl rfl
theorem dksX4_moved_7 : cX4_moved.data.toList.drop 164 = dktX4_moved_7 := dk_seg dksX4_moved_6 24 rfl rfl
theorem dX4_moved_0 : decode cX4_moved 0 = .ok (.aload_n 0, 1) := dk_42 (dk_at dksX4_moved_0 0 rfl rfl)
theorem dX4_moved_1 : decode cX4_moved 1 = .ok (.iconst 0, 1) := dk_3 (dk_at dksX4_moved_0 1 rfl rfl)
theorem dX4_moved_2 : decode cX4_moved 2 = .ok (.putfield 124, 3) := dk_181 0 124 (dk_at dksX4_moved_0 2 rfl rfl)
theorem dX4_moved_5 : decode cX4_moved 5 = .ok (.aload_n 0, 1) := dk_42 (dk_at dksX4_moved_0 5 rfl rfl)
theorem dX4_moved_6 : decode cX4_moved 6 = .ok (.iload_n 1, 1) := dk_27 (dk_at dksX4_moved_0 6 rfl rfl)
theorem dX4_moved_7 : decode cX4_moved 7 = .ok (.invokevirtual 315, 3) := dk_182 1 59 (dk_at dksX4_moved_0 7 rfl rfl)
theorem dX4_moved_10 : decode cX4_moved 10 = .ok (.ifCond .ne 5, 3) := dk_154 0 5 (dk_at dksX4_moved_0 10 rfl rfl)
theorem dX4_moved_13 : decode cX4_moved 13 = .ok (.iconst (-1), 1) := dk_2 (dk_at dksX4_moved_0 13 rfl rfl)
theorem dX4_moved_14 : decode cX4_moved 14 = .ok (.ireturn, 1) := dk_172 (dk_at dksX4_moved_0 14 rfl rfl)
theorem dX4_moved_15 : decode cX4_moved 15 = .ok (.iconst 0, 1) := dk_3 (dk_at dksX4_moved_0 15 rfl rfl)
theorem dX4_moved_16 : decode cX4_moved 16 = .ok (.istore_n 2, 1) := dk_61 (dk_at dksX4_moved_0 16 rfl rfl)
theorem dX4_moved_17 : decode cX4_moved 17 = .ok (.iconst 0, 1) := dk_3 (dk_at dksX4_moved_0 17 rfl rfl)
theorem dX4_moved_18 : decode cX4_moved 18 = .ok (.istore_n 3, 1) := dk_62 (dk_at dksX4_moved_0 18 rfl rfl)
theorem dX4_moved_19 : decode cX4_moved 19 = .ok (.iconst 0, 1) := dk_3 (dk_at dksX4_moved_0 19 rfl rfl)
theorem dX4_moved_20 : decode cX4_moved 20 = .ok (.istore 4, 2) := dk_54 4 (dk_at dksX4_moved_0 20 rfl rfl)
theorem dX4_moved_22 : decode cX4_moved 22 = .ok (.iload 4, 2) := dk_21 4 (dk_at dksX4_moved_0 22 rfl rfl)
theorem dX4_moved_24 : decode cX4_moved 24 = .ok (.aload_n 0, 1) := dk_42 (dk_at dksX4_moved_1 0 rfl rfl)
theorem dX4_moved_25 : decode cX4_moved 25 = .ok (.getfield 201, 3) := dk_180 0 201 (dk_at dksX4_moved_1 1 rfl rfl)
theorem dX4_moved_28 : decode cX4_moved 28 = .ok (.if_icmp .ge 151, 3) := dk_162 0 151 (dk_at dksX4_moved_1 4 rfl rfl)
theorem dX4_moved_31 : decode cX4_moved 31 = .ok (.aload_n 0, 1) := dk_42 (dk_at dksX4_moved_1 7 rfl rfl)
theorem dX4_moved_32 : decode cX4_moved 32 = .ok (.getfield 66, 3) := dk_180 0 66 (dk_at dksX4_moved_1 8 rfl rfl)
theorem dX4_moved_35 : decode cX4_moved 35 = .ok (.iload 4, 2) := dk_21 4 (dk_at dksX4_moved_1 11 rfl rfl)
theorem dX4_moved_37 : decode cX4_moved 37 = .ok (.iaload, 1) := dk_46 (dk_at dksX4_moved_1 13 rfl rfl)
theorem dX4_moved_38 : decode cX4_moved 38 = .ok (.iload_n 1, 1) := dk_27 (dk_at dksX4_moved_1 14 rfl rfl)
theorem dX4_moved_39 : decode cX4_moved 39 = .ok (.if_icmp .ne 134, 3) := dk_160 0 134 (dk_at dksX4_moved_1 15 rfl rfl)
theorem dX4_moved_42 : decode cX4_moved 42 = .ok (.aload_n 0, 1) := dk_42 (dk_at dksX4_moved_1 18 rfl rfl)
theorem dX4_moved_43 : decode cX4_moved 43 = .ok (.iload 4, 2) := dk_21 4 (dk_at dksX4_moved_1 19 rfl rfl)
theorem dX4_moved_45 : decode cX4_moved 45 = .ok (.invokevirtual 389, 3) := dk_182 1 133 (dk_at dksX4_moved_1 21 rfl rfl)
theorem dX4_moved_48 : decode cX4_moved 48 = .ok (.iconst 1, 1) := dk_4 (dk_at dksX4_moved_2 0 rfl rfl)
theorem dX4_moved_49 : decode cX4_moved 49 = .ok (.if_icmp .le 6, 3) := dk_164 0 6 (dk_at dksX4_moved_2 1 rfl rfl)
theorem dX4_moved_52 : decode cX4_moved 52 = .ok (.goto 121, 3) := dk_167 0 121 (dk_at dksX4_moved_2 4 rfl rfl)
theorem dX4_moved_55 : decode cX4_moved 55 = .ok (.aload_n 0, 1) := dk_42 (dk_at dksX4_moved_2 7 rfl rfl)
theorem dX4_moved_56 : decode cX4_moved 56 = .ok (.getfield 105, 3) := dk_180 0 105 (dk_at dksX4_moved_2 8 rfl rfl)
theorem dX4_moved_59 : decode cX4_moved 59 = .ok (.iload_n 2, 1) := dk_28 (dk_at dksX4_moved_2 11 rfl rfl)
theorem dX4_moved_60 : decode cX4_moved 60 = .ok (.aload_n 0, 1) := dk_42 (dk_at dksX4_moved_2 12 rfl rfl)
theorem dX4_moved_61 : decode cX4_moved 61 = .ok (.iload_n 1, 1) := dk_27 (dk_at dksX4_moved_2 13 rfl rfl)
theorem dX4_moved_62 : decode cX4_moved 62 = .ok (.aload_n 0, 1) := dk_42 (dk_at dksX4_moved_2 14 rfl rfl)
theorem dX4_moved_63 : decode cX4_moved 63 = .ok (.getfield 69, 3) := dk_180 0 69 (dk_at dksX4_moved_2 15 rfl rfl)
theorem dX4_moved_66 : decode cX4_moved 66 = .ok (.iload 4, 2) := dk_21 4 (dk_at dksX4_moved_2 18 rfl rfl)
theorem dX4_moved_68 : decode cX4_moved 68 = .ok (.iaload, 1) := dk_46 (dk_at dksX4_moved_2 20 rfl rfl)
theorem dX4_moved_69 : decode cX4_moved 69 = .ok (.aload_n 0, 1) := dk_42 (dk_at dksX4_moved_2 21 rfl rfl)
theorem dX4_moved_70 : decode cX4_moved 70 = .ok (.getfield 72, 3) := dk_180 0 72 (dk_at dksX4_moved_3 0 rfl rfl)
theorem dX4_moved_73 : decode cX4_moved 73 = .ok (.iload 4, 2) := dk_21 4 (dk_at dksX4_moved_3 3 rfl rfl)
theorem dX4_moved_75 : decode cX4_moved 75 = .ok (.iaload, 1) := dk_46 (dk_at dksX4_moved_3 5 rfl rfl)
theorem dX4_moved_76 : decode cX4_moved 76 = .ok (.invokevirtual 386, 3) := dk_182 1 130 (dk_at dksX4_moved_3 6 rfl rfl)
theorem dX4_moved_79 : decode cX4_moved 79 = .ok (.iastore, 1) := dk_79 (dk_at dksX4_moved_3 9 rfl rfl)
theorem dX4_moved_80 : decode cX4_moved 80 = .ok (.aload_n 0, 1) := dk_42 (dk_at dksX4_moved_3 10 rfl rfl)
theorem dX4_moved_81 : decode cX4_moved 81 = .ok (.getfield 108, 3) := dk_180 0 108 (dk_at dksX4_moved_3 11 rfl rfl)
theorem dX4_moved_84 : decode cX4_moved 84 = .ok (.iload_n 2, 1) := dk_28 (dk_at dksX4_moved_3 14 rfl rfl)
theorem dX4_moved_85 : decode cX4_moved 85 = .ok (.iconst 1, 1) := dk_4 (dk_at dksX4_moved_3 15 rfl rfl)
theorem dX4_moved_86 : decode cX4_moved 86 = .ok (.iastore, 1) := dk_79 (dk_at dksX4_moved_3 16 rfl rfl)
theorem dX4_moved_87 : decode cX4_moved 87 = .ok (.iconst 0, 1) := dk_3 (dk_at dksX4_moved_3 17 rfl rfl)
theorem dX4_moved_88 : decode cX4_moved 88 = .ok (.istore 5, 2) := dk_54 5 (dk_at dksX4_moved_3 18 rfl rfl)
theorem dX4_moved_90 : decode cX4_moved 90 = .ok (.iload 5, 2) := dk_21 5 (dk_at dksX4_moved_3 20 rfl rfl)
theorem dX4_moved_92 : decode cX4_moved 92 = .ok (.iload_n 2, 1) := dk_28 (dk_at dksX4_moved_3 22 rfl rfl)
theorem dX4_moved_93 : decode cX4_moved 93 = .ok (.if_icmp .ge 56, 3) := dk_162 0 56 (dk_at dksX4_moved_4 0 rfl rfl)
theorem dX4_moved_96 : decode cX4_moved 96 = .ok (.aload_n 0, 1) := dk_42 (dk_at dksX4_moved_4 3 rfl rfl)
theorem dX4_moved_97 : decode cX4_moved 97 = .ok (.getfield 105, 3) := dk_180 0 105 (dk_at dksX4_moved_4 4 rfl rfl)
theorem dX4_moved_100 : decode cX4_moved 100 = .ok (.iload 5, 2) := dk_21 5 (dk_at dksX4_moved_4 7 rfl rfl)
theorem dX4_moved_102 : decode cX4_moved 102 = .ok (.iaload, 1) := dk_46 (dk_at dksX4_moved_4 9 rfl rfl)
theorem dX4_moved_103 : decode cX4_moved 103 = .ok (.aload_n 0, 1) := dk_42 (dk_at dksX4_moved_4 10 rfl rfl)
theorem dX4_moved_104 : decode cX4_moved 104 = .ok (.getfield 105, 3) := dk_180 0 105 (dk_at dksX4_moved_4 11 rfl rfl)
theorem dX4_moved_107 : decode cX4_moved 107 = .ok (.iload_n 2, 1) := dk_28 (dk_at dksX4_moved_4 14 rfl rfl)
theorem dX4_moved_108 : decode cX4_moved 108 = .ok (.iaload, 1) := dk_46 (dk_at dksX4_moved_4 15 rfl rfl)
theorem dX4_moved_109 : decode cX4_moved 109 = .ok (.if_icmp .gt 34, 3) := dk_163 0 34 (dk_at dksX4_moved_4 16 rfl rfl)
theorem dX4_moved_112 : decode cX4_moved 112 = .ok (.aload_n 0, 1) := dk_42 (dk_at dksX4_moved_4 19 rfl rfl)
theorem dX4_moved_113 : decode cX4_moved 113 = .ok (.getfield 108, 3) := dk_180 0 108 (dk_at dksX4_moved_4 20 rfl rfl)
theorem dX4_moved_116 : decode cX4_moved 116 = .ok (.iload 5, 2) := dk_21 5 (dk_at dksX4_moved_5 0 rfl rfl)
theorem dX4_moved_118 : decode cX4_moved 118 = .ok (.iaload, 1) := dk_46 (dk_at dksX4_moved_5 2 rfl rfl)
theorem dX4_moved_119 : decode cX4_moved 119 = .ok (.aload_n 0, 1) := dk_42 (dk_at dksX4_moved_5 3 rfl rfl)
theorem dX4_moved_120 : decode cX4_moved 120 = .ok (.getfield 108, 3) := dk_180 0 108 (dk_at dksX4_moved_5 4 rfl rfl)
theorem dX4_moved_123 : decode cX4_moved 123 = .ok (.iload_n 2, 1) := dk_28 (dk_at dksX4_moved_5 7 rfl rfl)
theorem dX4_moved_124 : decode cX4_moved 124 = .ok (.iaload, 1) := dk_46 (dk_at dksX4_moved_5 8 rfl rfl)
theorem dX4_moved_125 : decode cX4_moved 125 = .ok (.if_icmp .lt 18, 3) := dk_161 0 18 (dk_at dksX4_moved_5 9 rfl rfl)
theorem dX4_moved_128 : decode cX4_moved 128 = .ok (.aload_n 0, 1) := dk_42 (dk_at dksX4_moved_5 12 rfl rfl)
theorem dX4_moved_129 : decode cX4_moved 129 = .ok (.getfield 108, 3) := dk_180 0 108 (dk_at dksX4_moved_5 13 rfl rfl)
theorem dX4_moved_132 : decode cX4_moved 132 = .ok (.iload_n 2, 1) := dk_28 (dk_at dksX4_moved_5 16 rfl rfl)
theorem dX4_moved_133 : decode cX4_moved 133 = .ok (.aload_n 0, 1) := dk_42 (dk_at dksX4_moved_5 17 rfl rfl)
theorem dX4_moved_134 : decode cX4_moved 134 = .ok (.getfield 108, 3) := dk_180 0 108 (dk_at dksX4_moved_5 18 rfl rfl)
theorem dX4_moved_137 : decode cX4_moved 137 = .ok (.iload 5, 2) := dk_21 5 (dk_at dksX4_moved_5 21 rfl rfl)
theorem dX4_moved_139 : decode cX4_moved 139 = .ok (.iaload, 1) := dk_46 (dk_at dksX4_moved_5 23 rfl rfl)
theorem dX4_moved_140 : decode cX4_moved 140 = .ok (.iconst 1, 1) := dk_4 (dk_at dksX4_moved_6 0 rfl rfl)
theorem dX4_moved_141 : decode cX4_moved 141 = .ok (.iadd, 1) := dk_96 (dk_at dksX4_moved_6 1 rfl rfl)
theorem dX4_moved_142 : decode cX4_moved 142 = .ok (.iastore, 1) := dk_79 (dk_at dksX4_moved_6 2 rfl rfl)
theorem dX4_moved_143 : decode cX4_moved 143 = .ok (.iinc 5 1, 3) := dk_132 5 1 (dk_at dksX4_moved_6 3 rfl rfl)
theorem dX4_moved_146 : decode cX4_moved 146 = .ok (.goto (-56), 3) := dk_167 255 200 (dk_at dksX4_moved_6 6 rfl rfl)
theorem dX4_moved_149 : decode cX4_moved 149 = .ok (.aload_n 0, 1) := dk_42 (dk_at dksX4_moved_6 9 rfl rfl)
theorem dX4_moved_150 : decode cX4_moved 150 = .ok (.getfield 108, 3) := dk_180 0 108 (dk_at dksX4_moved_6 10 rfl rfl)
theorem dX4_moved_153 : decode cX4_moved 153 = .ok (.iload_n 2, 1) := dk_28 (dk_at dksX4_moved_6 13 rfl rfl)
theorem dX4_moved_154 : decode cX4_moved 154 = .ok (.iaload, 1) := dk_46 (dk_at dksX4_moved_6 14 rfl rfl)
theorem dX4_moved_155 : decode cX4_moved 155 = .ok (.iload_n 3, 1) := dk_29 (dk_at dksX4_moved_6 15 rfl rfl)
theorem dX4_moved_156 : decode cX4_moved 156 = .ok (.if_icmp .le 12, 3) := dk_164 0 12 (dk_at dksX4_moved_6 16 rfl rfl)
theorem dX4_moved_159 : decode cX4_moved 159 = .ok (.aload_n 0, 1) := dk_42 (dk_at dksX4_moved_6 19 rfl rfl)
theorem dX4_moved_160 : decode cX4_moved 160 = .ok (.getfield 108, 3) := dk_180 0 108 (dk_at dksX4_moved_6 20 rfl rfl)
theorem dX4_moved_163 : decode cX4_moved 163 = .ok (.iload_n 2, 1) := dk_28 (dk_at dksX4_moved_6 23 rfl rfl)
theorem dX4_moved_164 : decode cX4_moved 164 = .ok (.iaload, 1) := dk_46 (dk_at dksX4_moved_7 0 rfl rfl)
theorem dX4_moved_165 : decode cX4_moved 165 = .ok (.goto 4, 3) := dk_167 0 4 (dk_at dksX4_moved_7 1 rfl rfl)
theorem dX4_moved_168 : decode cX4_moved 168 = .ok (.iload_n 3, 1) := dk_29 (dk_at dksX4_moved_7 4 rfl rfl)
theorem dX4_moved_169 : decode cX4_moved 169 = .ok (.istore_n 3, 1) := dk_62 (dk_at dksX4_moved_7 5 rfl rfl)
theorem dX4_moved_170 : decode cX4_moved 170 = .ok (.iinc 2 1, 3) := dk_132 2 1 (dk_at dksX4_moved_7 6 rfl rfl)
theorem dX4_moved_173 : decode cX4_moved 173 = .ok (.iinc 4 1, 3) := dk_132 4 1 (dk_at dksX4_moved_7 9 rfl rfl)
theorem dX4_moved_176 : decode cX4_moved 176 = .ok (.goto (-154), 3) := dk_167 255 102 (dk_at dksX4_moved_7 12 rfl rfl)
theorem dX4_moved_179 : decode cX4_moved 179 = .ok (.iload_n 2, 1) := dk_28 (dk_at dksX4_moved_7 15 rfl rfl)
theorem dX4_moved_180 : decode cX4_moved 180 = .ok (.iload_n 3, 1) := dk_29 (dk_at dksX4_moved_7 16 rfl rfl)
theorem dX4_moved_181 : decode cX4_moved 181 = .ok (.isub, 1) := dk_100 (dk_at dksX4_moved_7 17 rfl rfl)
theorem dX4_moved_182 : decode cX4_moved 182 = .ok (.ireturn, 1) := dk_172 (dk_at dksX4_moved_7 18 rfl rfl)
abbrev cX4_story : ByteArray := prog_18_method_81_code
def yX4_story : MethodName := ⟨RX4, "story", "(II)I"⟩
def dkwX4_story_1 : List UInt8 := [182, 1, 139, 167, 0, 5, 16, 254, 172]
abbrev dktX4_story_1 : List UInt8 := dkwX4_story_1 ++ []
def dkwX4_story_0 : List UInt8 := [42, 3, 181, 0, 124, 42, 27, 182, 1, 59, 153, 0, 20, 42, 28, 182, 1, 53, 153, 0, 12, 42, 27, 28]
abbrev dktX4_story_0 : List UInt8 := dkwX4_story_0 ++ dktX4_story_1
theorem dksX4_story_0 : cX4_story.data.toList.drop 0 = dktX4_story_0 := by decide +kernel
theorem dksX4_story_1 : cX4_story.data.toList.drop 24 = dktX4_story_1 := dk_seg dksX4_story_0 24 rfl rfl
theorem dX4_story_0 : decode cX4_story 0 = .ok (.aload_n 0, 1) := dk_42 (dk_at dksX4_story_0 0 rfl rfl)
theorem dX4_story_1 : decode cX4_story 1 = .ok (.iconst 0, 1) := dk_3 (dk_at dksX4_story_0 1 rfl rfl)
theorem dX4_story_2 : decode cX4_story 2 = .ok (.putfield 124, 3) := dk_181 0 124 (dk_at dksX4_story_0 2 rfl rfl)
theorem dX4_story_5 : decode cX4_story 5 = .ok (.aload_n 0, 1) := dk_42 (dk_at dksX4_story_0 5 rfl rfl)
theorem dX4_story_6 : decode cX4_story 6 = .ok (.iload_n 1, 1) := dk_27 (dk_at dksX4_story_0 6 rfl rfl)
theorem dX4_story_7 : decode cX4_story 7 = .ok (.invokevirtual 315, 3) := dk_182 1 59 (dk_at dksX4_story_0 7 rfl rfl)
theorem dX4_story_10 : decode cX4_story 10 = .ok (.ifCond .eq 20, 3) := dk_153 0 20 (dk_at dksX4_story_0 10 rfl rfl)
theorem dX4_story_13 : decode cX4_story 13 = .ok (.aload_n 0, 1) := dk_42 (dk_at dksX4_story_0 13 rfl rfl)
theorem dX4_story_14 : decode cX4_story 14 = .ok (.iload_n 2, 1) := dk_28 (dk_at dksX4_story_0 14 rfl rfl)
theorem dX4_story_15 : decode cX4_story 15 = .ok (.invokevirtual 309, 3) := dk_182 1 53 (dk_at dksX4_story_0 15 rfl rfl)
theorem dX4_story_18 : decode cX4_story 18 = .ok (.ifCond .eq 12, 3) := dk_153 0 12 (dk_at dksX4_story_0 18 rfl rfl)
theorem dX4_story_21 : decode cX4_story 21 = .ok (.aload_n 0, 1) := dk_42 (dk_at dksX4_story_0 21 rfl rfl)
theorem dX4_story_22 : decode cX4_story 22 = .ok (.iload_n 1, 1) := dk_27 (dk_at dksX4_story_0 22 rfl rfl)
theorem dX4_story_23 : decode cX4_story 23 = .ok (.iload_n 2, 1) := dk_28 (dk_at dksX4_story_0 23 rfl rfl)
theorem dX4_story_24 : decode cX4_story 24 = .ok (.invokevirtual 395, 3) := dk_182 1 139 (dk_at dksX4_story_1 0 rfl rfl)
theorem dX4_story_27 : decode cX4_story 27 = .ok (.goto 5, 3) := dk_167 0 5 (dk_at dksX4_story_1 3 rfl rfl)
theorem dX4_story_30 : decode cX4_story 30 = .ok (.bipush (-2), 2) := dk_16 254 (dk_at dksX4_story_1 6 rfl rfl)
theorem dX4_story_32 : decode cX4_story 32 = .ok (.ireturn, 1) := dk_172 (dk_at dksX4_story_1 8 rfl rfl)
abbrev cX4_storyOf : ByteArray := prog_18_method_80_code
def yX4_storyOf : MethodName := ⟨RX4, "storyOf", "(II)I"⟩
def dkwX4_storyOf_0 : List UInt8 := [42, 27, 28, 182, 1, 127, 62, 29, 156, 0, 7, 2, 167, 0, 9, 42, 180, 0, 63, 29, 46, 172]
abbrev dktX4_storyOf_0 : List UInt8 := dkwX4_storyOf_0 ++ []
theorem dksX4_storyOf_0 : cX4_storyOf.data.toList.drop 0 = dktX4_storyOf_0 := by decide +kernel
theorem dX4_storyOf_0 : decode cX4_storyOf 0 = .ok (.aload_n 0, 1) := dk_42 (dk_at dksX4_storyOf_0 0 rfl rfl)
theorem dX4_storyOf_1 : decode cX4_storyOf 1 = .ok (.iload_n 1, 1) := dk_27 (dk_at dksX4_storyOf_0 1 rfl rfl)
theorem dX4_storyOf_2 : decode cX4_storyOf 2 = .ok (.iload_n 2, 1) := dk_28 (dk_at dksX4_storyOf_0 2 rfl rfl)
theorem dX4_storyOf_3 : decode cX4_storyOf 3 = .ok (.invokevirtual 383, 3) := dk_182 1 127 (dk_at dksX4_storyOf_0 3 rfl rfl)
theorem dX4_storyOf_6 : decode cX4_storyOf 6 = .ok (.istore_n 3, 1) := dk_62 (dk_at dksX4_storyOf_0 6 rfl rfl)
theorem dX4_storyOf_7 : decode cX4_storyOf 7 = .ok (.iload_n 3, 1) := dk_29 (dk_at dksX4_storyOf_0 7 rfl rfl)
theorem dX4_storyOf_8 : decode cX4_storyOf 8 = .ok (.ifCond .ge 7, 3) := dk_156 0 7 (dk_at dksX4_storyOf_0 8 rfl rfl)
theorem dX4_storyOf_11 : decode cX4_storyOf 11 = .ok (.iconst (-1), 1) := dk_2 (dk_at dksX4_storyOf_0 11 rfl rfl)
theorem dX4_storyOf_12 : decode cX4_storyOf 12 = .ok (.goto 9, 3) := dk_167 0 9 (dk_at dksX4_storyOf_0 12 rfl rfl)
theorem dX4_storyOf_15 : decode cX4_storyOf 15 = .ok (.aload_n 0, 1) := dk_42 (dk_at dksX4_storyOf_0 15 rfl rfl)
theorem dX4_storyOf_16 : decode cX4_storyOf 16 = .ok (.getfield 63, 3) := dk_180 0 63 (dk_at dksX4_storyOf_0 16 rfl rfl)
theorem dX4_storyOf_19 : decode cX4_storyOf 19 = .ok (.iload_n 3, 1) := dk_29 (dk_at dksX4_storyOf_0 19 rfl rfl)
theorem dX4_storyOf_20 : decode cX4_storyOf 20 = .ok (.iaload, 1) := dk_46 (dk_at dksX4_storyOf_0 20 rfl rfl)
theorem dX4_storyOf_21 : decode cX4_storyOf 21 = .ok (.ireturn, 1) := dk_172 (dk_at dksX4_storyOf_0 21 rfl rfl)
abbrev cX4_clash : ByteArray := prog_18_method_83_code
def yX4_clash : MethodName := ⟨RX4, "clash", "(II)I"⟩
def dkwX4_clash_1 : List UInt8 := [159, 0, 12, 42, 27, 28, 182, 1, 142, 167, 0, 4, 2, 172]
abbrev dktX4_clash_1 : List UInt8 := dkwX4_clash_1 ++ []
def dkwX4_clash_0 : List UInt8 := [42, 3, 181, 0, 124, 42, 27, 182, 1, 59, 153, 0, 25, 42, 28, 182, 1, 59, 153, 0, 17, 27, 28]
abbrev dktX4_clash_0 : List UInt8 := dkwX4_clash_0 ++ dktX4_clash_1
theorem dksX4_clash_0 : cX4_clash.data.toList.drop 0 = dktX4_clash_0 := by decide +kernel
theorem dksX4_clash_1 : cX4_clash.data.toList.drop 23 = dktX4_clash_1 := dk_seg dksX4_clash_0 23 rfl rfl
theorem dX4_clash_0 : decode cX4_clash 0 = .ok (.aload_n 0, 1) := dk_42 (dk_at dksX4_clash_0 0 rfl rfl)
theorem dX4_clash_1 : decode cX4_clash 1 = .ok (.iconst 0, 1) := dk_3 (dk_at dksX4_clash_0 1 rfl rfl)
theorem dX4_clash_2 : decode cX4_clash 2 = .ok (.putfield 124, 3) := dk_181 0 124 (dk_at dksX4_clash_0 2 rfl rfl)
theorem dX4_clash_5 : decode cX4_clash 5 = .ok (.aload_n 0, 1) := dk_42 (dk_at dksX4_clash_0 5 rfl rfl)
theorem dX4_clash_6 : decode cX4_clash 6 = .ok (.iload_n 1, 1) := dk_27 (dk_at dksX4_clash_0 6 rfl rfl)
theorem dX4_clash_7 : decode cX4_clash 7 = .ok (.invokevirtual 315, 3) := dk_182 1 59 (dk_at dksX4_clash_0 7 rfl rfl)
theorem dX4_clash_10 : decode cX4_clash 10 = .ok (.ifCond .eq 25, 3) := dk_153 0 25 (dk_at dksX4_clash_0 10 rfl rfl)
theorem dX4_clash_13 : decode cX4_clash 13 = .ok (.aload_n 0, 1) := dk_42 (dk_at dksX4_clash_0 13 rfl rfl)
theorem dX4_clash_14 : decode cX4_clash 14 = .ok (.iload_n 2, 1) := dk_28 (dk_at dksX4_clash_0 14 rfl rfl)
theorem dX4_clash_15 : decode cX4_clash 15 = .ok (.invokevirtual 315, 3) := dk_182 1 59 (dk_at dksX4_clash_0 15 rfl rfl)
theorem dX4_clash_18 : decode cX4_clash 18 = .ok (.ifCond .eq 17, 3) := dk_153 0 17 (dk_at dksX4_clash_0 18 rfl rfl)
theorem dX4_clash_21 : decode cX4_clash 21 = .ok (.iload_n 1, 1) := dk_27 (dk_at dksX4_clash_0 21 rfl rfl)
theorem dX4_clash_22 : decode cX4_clash 22 = .ok (.iload_n 2, 1) := dk_28 (dk_at dksX4_clash_0 22 rfl rfl)
theorem dX4_clash_23 : decode cX4_clash 23 = .ok (.if_icmp .eq 12, 3) := dk_159 0 12 (dk_at dksX4_clash_1 0 rfl rfl)
theorem dX4_clash_26 : decode cX4_clash 26 = .ok (.aload_n 0, 1) := dk_42 (dk_at dksX4_clash_1 3 rfl rfl)
theorem dX4_clash_27 : decode cX4_clash 27 = .ok (.iload_n 1, 1) := dk_27 (dk_at dksX4_clash_1 4 rfl rfl)
theorem dX4_clash_28 : decode cX4_clash 28 = .ok (.iload_n 2, 1) := dk_28 (dk_at dksX4_clash_1 5 rfl rfl)
theorem dX4_clash_29 : decode cX4_clash 29 = .ok (.invokevirtual 398, 3) := dk_182 1 142 (dk_at dksX4_clash_1 6 rfl rfl)
theorem dX4_clash_32 : decode cX4_clash 32 = .ok (.goto 4, 3) := dk_167 0 4 (dk_at dksX4_clash_1 9 rfl rfl)
theorem dX4_clash_35 : decode cX4_clash 35 = .ok (.iconst (-1), 1) := dk_2 (dk_at dksX4_clash_1 12 rfl rfl)
theorem dX4_clash_36 : decode cX4_clash 36 = .ok (.ireturn, 1) := dk_172 (dk_at dksX4_clash_1 13 rfl rfl)
abbrev cX4_clashes : ByteArray := prog_18_method_82_code
def yX4_clashes : MethodName := ⟨RX4, "clashes", "(II)I"⟩
def dkwX4_clashes_2 : List UInt8 := [159, 0, 7, 4, 167, 0, 4, 3, 96, 62, 132, 4, 1, 167, 255, 201, 29, 172]
abbrev dktX4_clashes_2 : List UInt8 := dkwX4_clashes_2 ++ []
def dkwX4_clashes_1 : List UInt8 := [28, 21, 4, 182, 1, 139, 54, 6, 29, 21, 5, 155, 0, 19, 21, 6, 155, 0, 14, 21, 5, 21, 6]
abbrev dktX4_clashes_1 : List UInt8 := dkwX4_clashes_1 ++ dktX4_clashes_2
def dkwX4_clashes_0 : List UInt8 := [3, 62, 3, 54, 4, 21, 4, 42, 180, 0, 192, 162, 0, 52, 42, 27, 21, 4, 182, 1, 139, 54, 5, 42]
abbrev dktX4_clashes_0 : List UInt8 := dkwX4_clashes_0 ++ dktX4_clashes_1
theorem dksX4_clashes_0 : cX4_clashes.data.toList.drop 0 = dktX4_clashes_0 := by decide +kernel
theorem dksX4_clashes_1 : cX4_clashes.data.toList.drop 24 = dktX4_clashes_1 := dk_seg dksX4_clashes_0 24 rfl rfl
theorem dksX4_clashes_2 : cX4_clashes.data.toList.drop 47 = dktX4_clashes_2 := dk_seg dksX4_clashes_1 23 rfl rfl
theorem dX4_clashes_0 : decode cX4_clashes 0 = .ok (.iconst 0, 1) := dk_3 (dk_at dksX4_clashes_0 0 rfl rfl)
theorem dX4_clashes_1 : decode cX4_clashes 1 = .ok (.istore_n 3, 1) := dk_62 (dk_at dksX4_clashes_0 1 rfl rfl)
theorem dX4_clashes_2 : decode cX4_clashes 2 = .ok (.iconst 0, 1) := dk_3 (dk_at dksX4_clashes_0 2 rfl rfl)
theorem dX4_clashes_3 : decode cX4_clashes 3 = .ok (.istore 4, 2) := dk_54 4 (dk_at dksX4_clashes_0 3 rfl rfl)
theorem dX4_clashes_5 : decode cX4_clashes 5 = .ok (.iload 4, 2) := dk_21 4 (dk_at dksX4_clashes_0 5 rfl rfl)
theorem dX4_clashes_7 : decode cX4_clashes 7 = .ok (.aload_n 0, 1) := dk_42 (dk_at dksX4_clashes_0 7 rfl rfl)
theorem dX4_clashes_8 : decode cX4_clashes 8 = .ok (.getfield 192, 3) := dk_180 0 192 (dk_at dksX4_clashes_0 8 rfl rfl)
theorem dX4_clashes_11 : decode cX4_clashes 11 = .ok (.if_icmp .ge 52, 3) := dk_162 0 52 (dk_at dksX4_clashes_0 11 rfl rfl)
theorem dX4_clashes_14 : decode cX4_clashes 14 = .ok (.aload_n 0, 1) := dk_42 (dk_at dksX4_clashes_0 14 rfl rfl)
theorem dX4_clashes_15 : decode cX4_clashes 15 = .ok (.iload_n 1, 1) := dk_27 (dk_at dksX4_clashes_0 15 rfl rfl)
theorem dX4_clashes_16 : decode cX4_clashes 16 = .ok (.iload 4, 2) := dk_21 4 (dk_at dksX4_clashes_0 16 rfl rfl)
theorem dX4_clashes_18 : decode cX4_clashes 18 = .ok (.invokevirtual 395, 3) := dk_182 1 139 (dk_at dksX4_clashes_0 18 rfl rfl)
theorem dX4_clashes_21 : decode cX4_clashes 21 = .ok (.istore 5, 2) := dk_54 5 (dk_at dksX4_clashes_0 21 rfl rfl)
theorem dX4_clashes_23 : decode cX4_clashes 23 = .ok (.aload_n 0, 1) := dk_42 (dk_at dksX4_clashes_0 23 rfl rfl)
theorem dX4_clashes_24 : decode cX4_clashes 24 = .ok (.iload_n 2, 1) := dk_28 (dk_at dksX4_clashes_1 0 rfl rfl)
theorem dX4_clashes_25 : decode cX4_clashes 25 = .ok (.iload 4, 2) := dk_21 4 (dk_at dksX4_clashes_1 1 rfl rfl)
theorem dX4_clashes_27 : decode cX4_clashes 27 = .ok (.invokevirtual 395, 3) := dk_182 1 139 (dk_at dksX4_clashes_1 3 rfl rfl)
theorem dX4_clashes_30 : decode cX4_clashes 30 = .ok (.istore 6, 2) := dk_54 6 (dk_at dksX4_clashes_1 6 rfl rfl)
theorem dX4_clashes_32 : decode cX4_clashes 32 = .ok (.iload_n 3, 1) := dk_29 (dk_at dksX4_clashes_1 8 rfl rfl)
theorem dX4_clashes_33 : decode cX4_clashes 33 = .ok (.iload 5, 2) := dk_21 5 (dk_at dksX4_clashes_1 9 rfl rfl)
theorem dX4_clashes_35 : decode cX4_clashes 35 = .ok (.ifCond .lt 19, 3) := dk_155 0 19 (dk_at dksX4_clashes_1 11 rfl rfl)
theorem dX4_clashes_38 : decode cX4_clashes 38 = .ok (.iload 6, 2) := dk_21 6 (dk_at dksX4_clashes_1 14 rfl rfl)
theorem dX4_clashes_40 : decode cX4_clashes 40 = .ok (.ifCond .lt 14, 3) := dk_155 0 14 (dk_at dksX4_clashes_1 16 rfl rfl)
theorem dX4_clashes_43 : decode cX4_clashes 43 = .ok (.iload 5, 2) := dk_21 5 (dk_at dksX4_clashes_1 19 rfl rfl)
theorem dX4_clashes_45 : decode cX4_clashes 45 = .ok (.iload 6, 2) := dk_21 6 (dk_at dksX4_clashes_1 21 rfl rfl)
theorem dX4_clashes_47 : decode cX4_clashes 47 = .ok (.if_icmp .eq 7, 3) := dk_159 0 7 (dk_at dksX4_clashes_2 0 rfl rfl)
theorem dX4_clashes_50 : decode cX4_clashes 50 = .ok (.iconst 1, 1) := dk_4 (dk_at dksX4_clashes_2 3 rfl rfl)
theorem dX4_clashes_51 : decode cX4_clashes 51 = .ok (.goto 4, 3) := dk_167 0 4 (dk_at dksX4_clashes_2 4 rfl rfl)
theorem dX4_clashes_54 : decode cX4_clashes 54 = .ok (.iconst 0, 1) := dk_3 (dk_at dksX4_clashes_2 7 rfl rfl)
theorem dX4_clashes_55 : decode cX4_clashes 55 = .ok (.iadd, 1) := dk_96 (dk_at dksX4_clashes_2 8 rfl rfl)
theorem dX4_clashes_56 : decode cX4_clashes 56 = .ok (.istore_n 3, 1) := dk_62 (dk_at dksX4_clashes_2 9 rfl rfl)
theorem dX4_clashes_57 : decode cX4_clashes 57 = .ok (.iinc 4 1, 3) := dk_132 4 1 (dk_at dksX4_clashes_2 10 rfl rfl)
theorem dX4_clashes_60 : decode cX4_clashes 60 = .ok (.goto (-55), 3) := dk_167 255 201 (dk_at dksX4_clashes_2 13 rfl rfl)
theorem dX4_clashes_63 : decode cX4_clashes 63 = .ok (.iload_n 3, 1) := dk_29 (dk_at dksX4_clashes_2 16 rfl rfl)
theorem dX4_clashes_64 : decode cX4_clashes 64 = .ok (.ireturn, 1) := dk_172 (dk_at dksX4_clashes_2 17 rfl rfl)
abbrev cX4_together : ByteArray := prog_18_method_84_code
def yX4_together : MethodName := ⟨RX4, "together", "()I"⟩
def dkwX4_together_5 : List UInt8 := [172]
abbrev dktX4_together_5 : List UInt8 := dkwX4_together_5 ++ []
def dkwX4_together_4 : List UInt8 := [29, 153, 0, 16, 28, 184, 1, 148, 27, 184, 1, 148, 164, 0, 5, 28, 60, 132, 2, 1, 167, 255, 151, 27]
abbrev dktX4_together_4 : List UInt8 := dkwX4_together_4 ++ dktX4_together_5
def dkwX4_together_3 : List UInt8 := [182, 1, 142, 154, 0, 7, 4, 167, 0, 4, 3, 62, 132, 5, 1, 167, 255, 207, 132, 4, 1, 167, 255, 189]
abbrev dktX4_together_3 : List UInt8 := dkwX4_together_3 ++ dktX4_together_4
def dkwX4_together_2 : List UInt8 := [21, 4, 184, 1, 145, 153, 0, 23, 28, 21, 5, 184, 1, 145, 153, 0, 14, 42, 21, 4, 21, 5]
abbrev dktX4_together_2 : List UInt8 := dkwX4_together_2 ++ dktX4_together_3
def dkwX4_together_1 : List UInt8 := [21, 4, 42, 180, 0, 195, 162, 0, 64, 3, 54, 5, 21, 5, 21, 4, 162, 0, 48, 29, 153, 0, 36, 28]
abbrev dktX4_together_1 : List UInt8 := dkwX4_together_1 ++ dktX4_together_2
def dkwX4_together_0 : List UInt8 := [42, 3, 181, 0, 124, 3, 60, 4, 61, 28, 4, 42, 180, 0, 195, 120, 162, 0, 101, 4, 62, 3, 54, 4]
abbrev dktX4_together_0 : List UInt8 := dkwX4_together_0 ++ dktX4_together_1
theorem dksX4_together_0 : cX4_together.data.toList.drop 0 = dktX4_together_0 := by decide +kernel
theorem dksX4_together_1 : cX4_together.data.toList.drop 24 = dktX4_together_1 := dk_seg dksX4_together_0 24 rfl rfl
theorem dksX4_together_2 : cX4_together.data.toList.drop 48 = dktX4_together_2 := dk_seg dksX4_together_1 24 rfl rfl
theorem dksX4_together_3 : cX4_together.data.toList.drop 70 = dktX4_together_3 := dk_seg dksX4_together_2 22 rfl rfl
theorem dksX4_together_4 : cX4_together.data.toList.drop 94 = dktX4_together_4 := dk_seg dksX4_together_3 24 rfl rfl
theorem dksX4_together_5 : cX4_together.data.toList.drop 118 = dktX4_together_5 := dk_seg dksX4_together_4 24 rfl rfl
theorem dX4_together_0 : decode cX4_together 0 = .ok (.aload_n 0, 1) := dk_42 (dk_at dksX4_together_0 0 rfl rfl)
theorem dX4_together_1 : decode cX4_together 1 = .ok (.iconst 0, 1) := dk_3 (dk_at dksX4_together_0 1 rfl rfl)
theorem dX4_together_2 : decode cX4_together 2 = .ok (.putfield 124, 3) := dk_181 0 124 (dk_at dksX4_together_0 2 rfl rfl)
theorem dX4_together_5 : decode cX4_together 5 = .ok (.iconst 0, 1) := dk_3 (dk_at dksX4_together_0 5 rfl rfl)
theorem dX4_together_6 : decode cX4_together 6 = .ok (.istore_n 1, 1) := dk_60 (dk_at dksX4_together_0 6 rfl rfl)
theorem dX4_together_7 : decode cX4_together 7 = .ok (.iconst 1, 1) := dk_4 (dk_at dksX4_together_0 7 rfl rfl)
theorem dX4_together_8 : decode cX4_together 8 = .ok (.istore_n 2, 1) := dk_61 (dk_at dksX4_together_0 8 rfl rfl)
theorem dX4_together_9 : decode cX4_together 9 = .ok (.iload_n 2, 1) := dk_28 (dk_at dksX4_together_0 9 rfl rfl)
theorem dX4_together_10 : decode cX4_together 10 = .ok (.iconst 1, 1) := dk_4 (dk_at dksX4_together_0 10 rfl rfl)
theorem dX4_together_11 : decode cX4_together 11 = .ok (.aload_n 0, 1) := dk_42 (dk_at dksX4_together_0 11 rfl rfl)
theorem dX4_together_12 : decode cX4_together 12 = .ok (.getfield 195, 3) := dk_180 0 195 (dk_at dksX4_together_0 12 rfl rfl)
theorem dX4_together_15 : decode cX4_together 15 = .ok (.ishl, 1) := dk_120 (dk_at dksX4_together_0 15 rfl rfl)
theorem dX4_together_16 : decode cX4_together 16 = .ok (.if_icmp .ge 101, 3) := dk_162 0 101 (dk_at dksX4_together_0 16 rfl rfl)
theorem dX4_together_19 : decode cX4_together 19 = .ok (.iconst 1, 1) := dk_4 (dk_at dksX4_together_0 19 rfl rfl)
theorem dX4_together_20 : decode cX4_together 20 = .ok (.istore_n 3, 1) := dk_62 (dk_at dksX4_together_0 20 rfl rfl)
theorem dX4_together_21 : decode cX4_together 21 = .ok (.iconst 0, 1) := dk_3 (dk_at dksX4_together_0 21 rfl rfl)
theorem dX4_together_22 : decode cX4_together 22 = .ok (.istore 4, 2) := dk_54 4 (dk_at dksX4_together_0 22 rfl rfl)
theorem dX4_together_24 : decode cX4_together 24 = .ok (.iload 4, 2) := dk_21 4 (dk_at dksX4_together_1 0 rfl rfl)
theorem dX4_together_26 : decode cX4_together 26 = .ok (.aload_n 0, 1) := dk_42 (dk_at dksX4_together_1 2 rfl rfl)
theorem dX4_together_27 : decode cX4_together 27 = .ok (.getfield 195, 3) := dk_180 0 195 (dk_at dksX4_together_1 3 rfl rfl)
theorem dX4_together_30 : decode cX4_together 30 = .ok (.if_icmp .ge 64, 3) := dk_162 0 64 (dk_at dksX4_together_1 6 rfl rfl)
theorem dX4_together_33 : decode cX4_together 33 = .ok (.iconst 0, 1) := dk_3 (dk_at dksX4_together_1 9 rfl rfl)
theorem dX4_together_34 : decode cX4_together 34 = .ok (.istore 5, 2) := dk_54 5 (dk_at dksX4_together_1 10 rfl rfl)
theorem dX4_together_36 : decode cX4_together 36 = .ok (.iload 5, 2) := dk_21 5 (dk_at dksX4_together_1 12 rfl rfl)
theorem dX4_together_38 : decode cX4_together 38 = .ok (.iload 4, 2) := dk_21 4 (dk_at dksX4_together_1 14 rfl rfl)
theorem dX4_together_40 : decode cX4_together 40 = .ok (.if_icmp .ge 48, 3) := dk_162 0 48 (dk_at dksX4_together_1 16 rfl rfl)
theorem dX4_together_43 : decode cX4_together 43 = .ok (.iload_n 3, 1) := dk_29 (dk_at dksX4_together_1 19 rfl rfl)
theorem dX4_together_44 : decode cX4_together 44 = .ok (.ifCond .eq 36, 3) := dk_153 0 36 (dk_at dksX4_together_1 20 rfl rfl)
theorem dX4_together_47 : decode cX4_together 47 = .ok (.iload_n 2, 1) := dk_28 (dk_at dksX4_together_1 23 rfl rfl)
theorem dX4_together_48 : decode cX4_together 48 = .ok (.iload 4, 2) := dk_21 4 (dk_at dksX4_together_2 0 rfl rfl)
theorem dX4_together_50 : decode cX4_together 50 = .ok (.invokestatic 401, 3) := dk_184 1 145 (dk_at dksX4_together_2 2 rfl rfl)
theorem dX4_together_53 : decode cX4_together 53 = .ok (.ifCond .eq 23, 3) := dk_153 0 23 (dk_at dksX4_together_2 5 rfl rfl)
theorem dX4_together_56 : decode cX4_together 56 = .ok (.iload_n 2, 1) := dk_28 (dk_at dksX4_together_2 8 rfl rfl)
theorem dX4_together_57 : decode cX4_together 57 = .ok (.iload 5, 2) := dk_21 5 (dk_at dksX4_together_2 9 rfl rfl)
theorem dX4_together_59 : decode cX4_together 59 = .ok (.invokestatic 401, 3) := dk_184 1 145 (dk_at dksX4_together_2 11 rfl rfl)
theorem dX4_together_62 : decode cX4_together 62 = .ok (.ifCond .eq 14, 3) := dk_153 0 14 (dk_at dksX4_together_2 14 rfl rfl)
theorem dX4_together_65 : decode cX4_together 65 = .ok (.aload_n 0, 1) := dk_42 (dk_at dksX4_together_2 17 rfl rfl)
theorem dX4_together_66 : decode cX4_together 66 = .ok (.iload 4, 2) := dk_21 4 (dk_at dksX4_together_2 18 rfl rfl)
theorem dX4_together_68 : decode cX4_together 68 = .ok (.iload 5, 2) := dk_21 5 (dk_at dksX4_together_2 20 rfl rfl)
theorem dX4_together_70 : decode cX4_together 70 = .ok (.invokevirtual 398, 3) := dk_182 1 142 (dk_at dksX4_together_3 0 rfl rfl)
theorem dX4_together_73 : decode cX4_together 73 = .ok (.ifCond .ne 7, 3) := dk_154 0 7 (dk_at dksX4_together_3 3 rfl rfl)
theorem dX4_together_76 : decode cX4_together 76 = .ok (.iconst 1, 1) := dk_4 (dk_at dksX4_together_3 6 rfl rfl)
theorem dX4_together_77 : decode cX4_together 77 = .ok (.goto 4, 3) := dk_167 0 4 (dk_at dksX4_together_3 7 rfl rfl)
theorem dX4_together_80 : decode cX4_together 80 = .ok (.iconst 0, 1) := dk_3 (dk_at dksX4_together_3 10 rfl rfl)
theorem dX4_together_81 : decode cX4_together 81 = .ok (.istore_n 3, 1) := dk_62 (dk_at dksX4_together_3 11 rfl rfl)
theorem dX4_together_82 : decode cX4_together 82 = .ok (.iinc 5 1, 3) := dk_132 5 1 (dk_at dksX4_together_3 12 rfl rfl)
theorem dX4_together_85 : decode cX4_together 85 = .ok (.goto (-49), 3) := dk_167 255 207 (dk_at dksX4_together_3 15 rfl rfl)
theorem dX4_together_88 : decode cX4_together 88 = .ok (.iinc 4 1, 3) := dk_132 4 1 (dk_at dksX4_together_3 18 rfl rfl)
theorem dX4_together_91 : decode cX4_together 91 = .ok (.goto (-67), 3) := dk_167 255 189 (dk_at dksX4_together_3 21 rfl rfl)
theorem dX4_together_94 : decode cX4_together 94 = .ok (.iload_n 3, 1) := dk_29 (dk_at dksX4_together_4 0 rfl rfl)
theorem dX4_together_95 : decode cX4_together 95 = .ok (.ifCond .eq 16, 3) := dk_153 0 16 (dk_at dksX4_together_4 1 rfl rfl)
theorem dX4_together_98 : decode cX4_together 98 = .ok (.iload_n 2, 1) := dk_28 (dk_at dksX4_together_4 4 rfl rfl)
theorem dX4_together_99 : decode cX4_together 99 = .ok (.invokestatic 404, 3) := dk_184 1 148 (dk_at dksX4_together_4 5 rfl rfl)
theorem dX4_together_102 : decode cX4_together 102 = .ok (.iload_n 1, 1) := dk_27 (dk_at dksX4_together_4 8 rfl rfl)
theorem dX4_together_103 : decode cX4_together 103 = .ok (.invokestatic 404, 3) := dk_184 1 148 (dk_at dksX4_together_4 9 rfl rfl)
theorem dX4_together_106 : decode cX4_together 106 = .ok (.if_icmp .le 5, 3) := dk_164 0 5 (dk_at dksX4_together_4 12 rfl rfl)
theorem dX4_together_109 : decode cX4_together 109 = .ok (.iload_n 2, 1) := dk_28 (dk_at dksX4_together_4 15 rfl rfl)
theorem dX4_together_110 : decode cX4_together 110 = .ok (.istore_n 1, 1) := dk_60 (dk_at dksX4_together_4 16 rfl rfl)
theorem dX4_together_111 : decode cX4_together 111 = .ok (.iinc 2 1, 3) := dk_132 2 1 (dk_at dksX4_together_4 17 rfl rfl)
theorem dX4_together_114 : decode cX4_together 114 = .ok (.goto (-105), 3) := dk_167 255 151 (dk_at dksX4_together_4 20 rfl rfl)
theorem dX4_together_117 : decode cX4_together 117 = .ok (.iload_n 1, 1) := dk_27 (dk_at dksX4_together_4 23 rfl rfl)
theorem dX4_together_118 : decode cX4_together 118 = .ok (.ireturn, 1) := dk_172 (dk_at dksX4_together_5 0 rfl rfl)
abbrev cX4_isOf : ByteArray := prog_18_method_5_code
def yX4_isOf : MethodName := ⟨RX4, "isOf", "(II)Z"⟩
def dkwX4_isOf_0 : List UInt8 := [26, 27, 122, 4, 126, 4, 160, 0, 7, 4, 167, 0, 4, 3, 172]
abbrev dktX4_isOf_0 : List UInt8 := dkwX4_isOf_0 ++ []
theorem dksX4_isOf_0 : cX4_isOf.data.toList.drop 0 = dktX4_isOf_0 := by decide +kernel
theorem dX4_isOf_0 : decode cX4_isOf 0 = .ok (.iload_n 0, 1) := dk_26 (dk_at dksX4_isOf_0 0 rfl rfl)
theorem dX4_isOf_1 : decode cX4_isOf 1 = .ok (.iload_n 1, 1) := dk_27 (dk_at dksX4_isOf_0 1 rfl rfl)
theorem dX4_isOf_2 : decode cX4_isOf 2 = .ok (.ishr, 1) := dk_122 (dk_at dksX4_isOf_0 2 rfl rfl)
theorem dX4_isOf_3 : decode cX4_isOf 3 = .ok (.iconst 1, 1) := dk_4 (dk_at dksX4_isOf_0 3 rfl rfl)
theorem dX4_isOf_4 : decode cX4_isOf 4 = .ok (.iand, 1) := dk_126 (dk_at dksX4_isOf_0 4 rfl rfl)
theorem dX4_isOf_5 : decode cX4_isOf 5 = .ok (.iconst 1, 1) := dk_4 (dk_at dksX4_isOf_0 5 rfl rfl)
theorem dX4_isOf_6 : decode cX4_isOf 6 = .ok (.if_icmp .ne 7, 3) := dk_160 0 7 (dk_at dksX4_isOf_0 6 rfl rfl)
theorem dX4_isOf_9 : decode cX4_isOf 9 = .ok (.iconst 1, 1) := dk_4 (dk_at dksX4_isOf_0 9 rfl rfl)
theorem dX4_isOf_10 : decode cX4_isOf 10 = .ok (.goto 4, 3) := dk_167 0 4 (dk_at dksX4_isOf_0 10 rfl rfl)
theorem dX4_isOf_13 : decode cX4_isOf 13 = .ok (.iconst 0, 1) := dk_3 (dk_at dksX4_isOf_0 13 rfl rfl)
theorem dX4_isOf_14 : decode cX4_isOf 14 = .ok (.ireturn, 1) := dk_172 (dk_at dksX4_isOf_0 14 rfl rfl)
abbrev cX4_many : ByteArray := prog_18_method_6_code
def yX4_many : MethodName := ⟨RX4, "many", "(I)I"⟩
def dkwX4_many_1 : List UInt8 := [27, 172]
abbrev dktX4_many_1 : List UInt8 := dkwX4_many_1 ++ []
def dkwX4_many_0 : List UInt8 := [3, 60, 3, 61, 28, 16, 16, 162, 0, 17, 27, 26, 28, 122, 4, 126, 96, 60, 132, 2, 1, 167, 255, 239]
abbrev dktX4_many_0 : List UInt8 := dkwX4_many_0 ++ dktX4_many_1
theorem dksX4_many_0 : cX4_many.data.toList.drop 0 = dktX4_many_0 := by decide +kernel
theorem dksX4_many_1 : cX4_many.data.toList.drop 24 = dktX4_many_1 := dk_seg dksX4_many_0 24 rfl rfl
theorem dX4_many_0 : decode cX4_many 0 = .ok (.iconst 0, 1) := dk_3 (dk_at dksX4_many_0 0 rfl rfl)
theorem dX4_many_1 : decode cX4_many 1 = .ok (.istore_n 1, 1) := dk_60 (dk_at dksX4_many_0 1 rfl rfl)
theorem dX4_many_2 : decode cX4_many 2 = .ok (.iconst 0, 1) := dk_3 (dk_at dksX4_many_0 2 rfl rfl)
theorem dX4_many_3 : decode cX4_many 3 = .ok (.istore_n 2, 1) := dk_61 (dk_at dksX4_many_0 3 rfl rfl)
theorem dX4_many_4 : decode cX4_many 4 = .ok (.iload_n 2, 1) := dk_28 (dk_at dksX4_many_0 4 rfl rfl)
theorem dX4_many_5 : decode cX4_many 5 = .ok (.bipush 16, 2) := dk_16 16 (dk_at dksX4_many_0 5 rfl rfl)
theorem dX4_many_7 : decode cX4_many 7 = .ok (.if_icmp .ge 17, 3) := dk_162 0 17 (dk_at dksX4_many_0 7 rfl rfl)
theorem dX4_many_10 : decode cX4_many 10 = .ok (.iload_n 1, 1) := dk_27 (dk_at dksX4_many_0 10 rfl rfl)
theorem dX4_many_11 : decode cX4_many 11 = .ok (.iload_n 0, 1) := dk_26 (dk_at dksX4_many_0 11 rfl rfl)
theorem dX4_many_12 : decode cX4_many 12 = .ok (.iload_n 2, 1) := dk_28 (dk_at dksX4_many_0 12 rfl rfl)
theorem dX4_many_13 : decode cX4_many 13 = .ok (.ishr, 1) := dk_122 (dk_at dksX4_many_0 13 rfl rfl)
theorem dX4_many_14 : decode cX4_many 14 = .ok (.iconst 1, 1) := dk_4 (dk_at dksX4_many_0 14 rfl rfl)
theorem dX4_many_15 : decode cX4_many 15 = .ok (.iand, 1) := dk_126 (dk_at dksX4_many_0 15 rfl rfl)
theorem dX4_many_16 : decode cX4_many 16 = .ok (.iadd, 1) := dk_96 (dk_at dksX4_many_0 16 rfl rfl)
theorem dX4_many_17 : decode cX4_many 17 = .ok (.istore_n 1, 1) := dk_60 (dk_at dksX4_many_0 17 rfl rfl)
theorem dX4_many_18 : decode cX4_many 18 = .ok (.iinc 2 1, 3) := dk_132 2 1 (dk_at dksX4_many_0 18 rfl rfl)
theorem dX4_many_21 : decode cX4_many 21 = .ok (.goto (-17), 3) := dk_167 255 239 (dk_at dksX4_many_0 21 rfl rfl)
theorem dX4_many_24 : decode cX4_many 24 = .ok (.iload_n 1, 1) := dk_27 (dk_at dksX4_many_1 0 rfl rfl)
theorem dX4_many_25 : decode cX4_many 25 = .ok (.ireturn, 1) := dk_172 (dk_at dksX4_many_1 1 rfl rfl)
abbrev cX4_lies : ByteArray := prog_18_method_86_code
def yX4_lies : MethodName := ⟨RX4, "lies", "(I)I"⟩
def dkwX4_lies_6 : List UInt8 := [167, 255, 136, 28, 172]
abbrev dktX4_lies_6 : List UInt8 := dkwX4_lies_6 ++ []
def dkwX4_lies_5 : List UInt8 := [167, 0, 5, 21, 5, 54, 5, 132, 6, 1, 167, 255, 167, 28, 21, 4, 21, 5, 100, 96, 61, 132, 3, 1]
abbrev dktX4_lies_5 : List UInt8 := dkwX4_lies_5 ++ dktX4_lies_6
def dkwX4_lies_4 : List UInt8 := [132, 8, 1, 167, 255, 213, 21, 4, 21, 7, 96, 54, 4, 21, 7, 21, 5, 164, 0, 8, 21, 7]
abbrev dktX4_lies_4 : List UInt8 := dkwX4_lies_4 ++ dktX4_lies_5
def dkwX4_lies_3 : List UInt8 := [153, 0, 19, 42, 21, 8, 29, 182, 1, 139, 21, 6, 160, 0, 7, 4, 167, 0, 4, 3, 96, 54, 7]
abbrev dktX4_lies_3 : List UInt8 := dkwX4_lies_3 ++ dktX4_lies_4
def dkwX4_lies_2 : List UInt8 := [54, 7, 3, 54, 8, 21, 8, 42, 180, 0, 195, 162, 0, 40, 21, 7, 27, 21, 8, 184, 1, 145]
abbrev dktX4_lies_2 : List UInt8 := dkwX4_lies_2 ++ dktX4_lies_3
def dkwX4_lies_1 : List UInt8 := [162, 0, 118, 3, 54, 4, 3, 54, 5, 3, 54, 6, 21, 6, 42, 180, 0, 23, 29, 46, 162, 0, 84, 3]
abbrev dktX4_lies_1 : List UInt8 := dkwX4_lies_1 ++ dktX4_lies_2
def dkwX4_lies_0 : List UInt8 := [42, 3, 181, 0, 124, 42, 27, 182, 1, 151, 154, 0, 5, 2, 172, 3, 61, 3, 62, 29, 42, 180, 0, 192]
abbrev dktX4_lies_0 : List UInt8 := dkwX4_lies_0 ++ dktX4_lies_1
theorem dksX4_lies_0 : cX4_lies.data.toList.drop 0 = dktX4_lies_0 := by decide +kernel
theorem dksX4_lies_1 : cX4_lies.data.toList.drop 24 = dktX4_lies_1 := dk_seg dksX4_lies_0 24 rfl rfl
theorem dksX4_lies_2 : cX4_lies.data.toList.drop 48 = dktX4_lies_2 := dk_seg dksX4_lies_1 24 rfl rfl
theorem dksX4_lies_3 : cX4_lies.data.toList.drop 70 = dktX4_lies_3 := dk_seg dksX4_lies_2 22 rfl rfl
theorem dksX4_lies_4 : cX4_lies.data.toList.drop 93 = dktX4_lies_4 := dk_seg dksX4_lies_3 23 rfl rfl
theorem dksX4_lies_5 : cX4_lies.data.toList.drop 115 = dktX4_lies_5 := dk_seg dksX4_lies_4 22 rfl rfl
theorem dksX4_lies_6 : cX4_lies.data.toList.drop 139 = dktX4_lies_6 := dk_seg dksX4_lies_5 24 rfl rfl
theorem dX4_lies_0 : decode cX4_lies 0 = .ok (.aload_n 0, 1) := dk_42 (dk_at dksX4_lies_0 0 rfl rfl)
theorem dX4_lies_1 : decode cX4_lies 1 = .ok (.iconst 0, 1) := dk_3 (dk_at dksX4_lies_0 1 rfl rfl)
theorem dX4_lies_2 : decode cX4_lies 2 = .ok (.putfield 124, 3) := dk_181 0 124 (dk_at dksX4_lies_0 2 rfl rfl)
theorem dX4_lies_5 : decode cX4_lies 5 = .ok (.aload_n 0, 1) := dk_42 (dk_at dksX4_lies_0 5 rfl rfl)
theorem dX4_lies_6 : decode cX4_lies 6 = .ok (.iload_n 1, 1) := dk_27 (dk_at dksX4_lies_0 6 rfl rfl)
theorem dX4_lies_7 : decode cX4_lies 7 = .ok (.invokevirtual 407, 3) := dk_182 1 151 (dk_at dksX4_lies_0 7 rfl rfl)
theorem dX4_lies_10 : decode cX4_lies 10 = .ok (.ifCond .ne 5, 3) := dk_154 0 5 (dk_at dksX4_lies_0 10 rfl rfl)
theorem dX4_lies_13 : decode cX4_lies 13 = .ok (.iconst (-1), 1) := dk_2 (dk_at dksX4_lies_0 13 rfl rfl)
theorem dX4_lies_14 : decode cX4_lies 14 = .ok (.ireturn, 1) := dk_172 (dk_at dksX4_lies_0 14 rfl rfl)
theorem dX4_lies_15 : decode cX4_lies 15 = .ok (.iconst 0, 1) := dk_3 (dk_at dksX4_lies_0 15 rfl rfl)
theorem dX4_lies_16 : decode cX4_lies 16 = .ok (.istore_n 2, 1) := dk_61 (dk_at dksX4_lies_0 16 rfl rfl)
theorem dX4_lies_17 : decode cX4_lies 17 = .ok (.iconst 0, 1) := dk_3 (dk_at dksX4_lies_0 17 rfl rfl)
theorem dX4_lies_18 : decode cX4_lies 18 = .ok (.istore_n 3, 1) := dk_62 (dk_at dksX4_lies_0 18 rfl rfl)
theorem dX4_lies_19 : decode cX4_lies 19 = .ok (.iload_n 3, 1) := dk_29 (dk_at dksX4_lies_0 19 rfl rfl)
theorem dX4_lies_20 : decode cX4_lies 20 = .ok (.aload_n 0, 1) := dk_42 (dk_at dksX4_lies_0 20 rfl rfl)
theorem dX4_lies_21 : decode cX4_lies 21 = .ok (.getfield 192, 3) := dk_180 0 192 (dk_at dksX4_lies_0 21 rfl rfl)
theorem dX4_lies_24 : decode cX4_lies 24 = .ok (.if_icmp .ge 118, 3) := dk_162 0 118 (dk_at dksX4_lies_1 0 rfl rfl)
theorem dX4_lies_27 : decode cX4_lies 27 = .ok (.iconst 0, 1) := dk_3 (dk_at dksX4_lies_1 3 rfl rfl)
theorem dX4_lies_28 : decode cX4_lies 28 = .ok (.istore 4, 2) := dk_54 4 (dk_at dksX4_lies_1 4 rfl rfl)
theorem dX4_lies_30 : decode cX4_lies 30 = .ok (.iconst 0, 1) := dk_3 (dk_at dksX4_lies_1 6 rfl rfl)
theorem dX4_lies_31 : decode cX4_lies 31 = .ok (.istore 5, 2) := dk_54 5 (dk_at dksX4_lies_1 7 rfl rfl)
theorem dX4_lies_33 : decode cX4_lies 33 = .ok (.iconst 0, 1) := dk_3 (dk_at dksX4_lies_1 9 rfl rfl)
theorem dX4_lies_34 : decode cX4_lies 34 = .ok (.istore 6, 2) := dk_54 6 (dk_at dksX4_lies_1 10 rfl rfl)
theorem dX4_lies_36 : decode cX4_lies 36 = .ok (.iload 6, 2) := dk_21 6 (dk_at dksX4_lies_1 12 rfl rfl)
theorem dX4_lies_38 : decode cX4_lies 38 = .ok (.aload_n 0, 1) := dk_42 (dk_at dksX4_lies_1 14 rfl rfl)
theorem dX4_lies_39 : decode cX4_lies 39 = .ok (.getfield 23, 3) := dk_180 0 23 (dk_at dksX4_lies_1 15 rfl rfl)
theorem dX4_lies_42 : decode cX4_lies 42 = .ok (.iload_n 3, 1) := dk_29 (dk_at dksX4_lies_1 18 rfl rfl)
theorem dX4_lies_43 : decode cX4_lies 43 = .ok (.iaload, 1) := dk_46 (dk_at dksX4_lies_1 19 rfl rfl)
theorem dX4_lies_44 : decode cX4_lies 44 = .ok (.if_icmp .ge 84, 3) := dk_162 0 84 (dk_at dksX4_lies_1 20 rfl rfl)
theorem dX4_lies_47 : decode cX4_lies 47 = .ok (.iconst 0, 1) := dk_3 (dk_at dksX4_lies_1 23 rfl rfl)
theorem dX4_lies_48 : decode cX4_lies 48 = .ok (.istore 7, 2) := dk_54 7 (dk_at dksX4_lies_2 0 rfl rfl)
theorem dX4_lies_50 : decode cX4_lies 50 = .ok (.iconst 0, 1) := dk_3 (dk_at dksX4_lies_2 2 rfl rfl)
theorem dX4_lies_51 : decode cX4_lies 51 = .ok (.istore 8, 2) := dk_54 8 (dk_at dksX4_lies_2 3 rfl rfl)
theorem dX4_lies_53 : decode cX4_lies 53 = .ok (.iload 8, 2) := dk_21 8 (dk_at dksX4_lies_2 5 rfl rfl)
theorem dX4_lies_55 : decode cX4_lies 55 = .ok (.aload_n 0, 1) := dk_42 (dk_at dksX4_lies_2 7 rfl rfl)
theorem dX4_lies_56 : decode cX4_lies 56 = .ok (.getfield 195, 3) := dk_180 0 195 (dk_at dksX4_lies_2 8 rfl rfl)
theorem dX4_lies_59 : decode cX4_lies 59 = .ok (.if_icmp .ge 40, 3) := dk_162 0 40 (dk_at dksX4_lies_2 11 rfl rfl)
theorem dX4_lies_62 : decode cX4_lies 62 = .ok (.iload 7, 2) := dk_21 7 (dk_at dksX4_lies_2 14 rfl rfl)
theorem dX4_lies_64 : decode cX4_lies 64 = .ok (.iload_n 1, 1) := dk_27 (dk_at dksX4_lies_2 16 rfl rfl)
theorem dX4_lies_65 : decode cX4_lies 65 = .ok (.iload 8, 2) := dk_21 8 (dk_at dksX4_lies_2 17 rfl rfl)
theorem dX4_lies_67 : decode cX4_lies 67 = .ok (.invokestatic 401, 3) := dk_184 1 145 (dk_at dksX4_lies_2 19 rfl rfl)
theorem dX4_lies_70 : decode cX4_lies 70 = .ok (.ifCond .eq 19, 3) := dk_153 0 19 (dk_at dksX4_lies_3 0 rfl rfl)
theorem dX4_lies_73 : decode cX4_lies 73 = .ok (.aload_n 0, 1) := dk_42 (dk_at dksX4_lies_3 3 rfl rfl)
theorem dX4_lies_74 : decode cX4_lies 74 = .ok (.iload 8, 2) := dk_21 8 (dk_at dksX4_lies_3 4 rfl rfl)
theorem dX4_lies_76 : decode cX4_lies 76 = .ok (.iload_n 3, 1) := dk_29 (dk_at dksX4_lies_3 6 rfl rfl)
theorem dX4_lies_77 : decode cX4_lies 77 = .ok (.invokevirtual 395, 3) := dk_182 1 139 (dk_at dksX4_lies_3 7 rfl rfl)
theorem dX4_lies_80 : decode cX4_lies 80 = .ok (.iload 6, 2) := dk_21 6 (dk_at dksX4_lies_3 10 rfl rfl)
theorem dX4_lies_82 : decode cX4_lies 82 = .ok (.if_icmp .ne 7, 3) := dk_160 0 7 (dk_at dksX4_lies_3 12 rfl rfl)
theorem dX4_lies_85 : decode cX4_lies 85 = .ok (.iconst 1, 1) := dk_4 (dk_at dksX4_lies_3 15 rfl rfl)
theorem dX4_lies_86 : decode cX4_lies 86 = .ok (.goto 4, 3) := dk_167 0 4 (dk_at dksX4_lies_3 16 rfl rfl)
theorem dX4_lies_89 : decode cX4_lies 89 = .ok (.iconst 0, 1) := dk_3 (dk_at dksX4_lies_3 19 rfl rfl)
theorem dX4_lies_90 : decode cX4_lies 90 = .ok (.iadd, 1) := dk_96 (dk_at dksX4_lies_3 20 rfl rfl)
theorem dX4_lies_91 : decode cX4_lies 91 = .ok (.istore 7, 2) := dk_54 7 (dk_at dksX4_lies_3 21 rfl rfl)
theorem dX4_lies_93 : decode cX4_lies 93 = .ok (.iinc 8 1, 3) := dk_132 8 1 (dk_at dksX4_lies_4 0 rfl rfl)
theorem dX4_lies_96 : decode cX4_lies 96 = .ok (.goto (-43), 3) := dk_167 255 213 (dk_at dksX4_lies_4 3 rfl rfl)
theorem dX4_lies_99 : decode cX4_lies 99 = .ok (.iload 4, 2) := dk_21 4 (dk_at dksX4_lies_4 6 rfl rfl)
theorem dX4_lies_101 : decode cX4_lies 101 = .ok (.iload 7, 2) := dk_21 7 (dk_at dksX4_lies_4 8 rfl rfl)
theorem dX4_lies_103 : decode cX4_lies 103 = .ok (.iadd, 1) := dk_96 (dk_at dksX4_lies_4 10 rfl rfl)
theorem dX4_lies_104 : decode cX4_lies 104 = .ok (.istore 4, 2) := dk_54 4 (dk_at dksX4_lies_4 11 rfl rfl)
theorem dX4_lies_106 : decode cX4_lies 106 = .ok (.iload 7, 2) := dk_21 7 (dk_at dksX4_lies_4 13 rfl rfl)
theorem dX4_lies_108 : decode cX4_lies 108 = .ok (.iload 5, 2) := dk_21 5 (dk_at dksX4_lies_4 15 rfl rfl)
theorem dX4_lies_110 : decode cX4_lies 110 = .ok (.if_icmp .le 8, 3) := dk_164 0 8 (dk_at dksX4_lies_4 17 rfl rfl)
theorem dX4_lies_113 : decode cX4_lies 113 = .ok (.iload 7, 2) := dk_21 7 (dk_at dksX4_lies_4 20 rfl rfl)
theorem dX4_lies_115 : decode cX4_lies 115 = .ok (.goto 5, 3) := dk_167 0 5 (dk_at dksX4_lies_5 0 rfl rfl)
theorem dX4_lies_118 : decode cX4_lies 118 = .ok (.iload 5, 2) := dk_21 5 (dk_at dksX4_lies_5 3 rfl rfl)
theorem dX4_lies_120 : decode cX4_lies 120 = .ok (.istore 5, 2) := dk_54 5 (dk_at dksX4_lies_5 5 rfl rfl)
theorem dX4_lies_122 : decode cX4_lies 122 = .ok (.iinc 6 1, 3) := dk_132 6 1 (dk_at dksX4_lies_5 7 rfl rfl)
theorem dX4_lies_125 : decode cX4_lies 125 = .ok (.goto (-89), 3) := dk_167 255 167 (dk_at dksX4_lies_5 10 rfl rfl)
theorem dX4_lies_128 : decode cX4_lies 128 = .ok (.iload_n 2, 1) := dk_28 (dk_at dksX4_lies_5 13 rfl rfl)
theorem dX4_lies_129 : decode cX4_lies 129 = .ok (.iload 4, 2) := dk_21 4 (dk_at dksX4_lies_5 14 rfl rfl)
theorem dX4_lies_131 : decode cX4_lies 131 = .ok (.iload 5, 2) := dk_21 5 (dk_at dksX4_lies_5 16 rfl rfl)
theorem dX4_lies_133 : decode cX4_lies 133 = .ok (.isub, 1) := dk_100 (dk_at dksX4_lies_5 18 rfl rfl)
theorem dX4_lies_134 : decode cX4_lies 134 = .ok (.iadd, 1) := dk_96 (dk_at dksX4_lies_5 19 rfl rfl)
theorem dX4_lies_135 : decode cX4_lies 135 = .ok (.istore_n 2, 1) := dk_61 (dk_at dksX4_lies_5 20 rfl rfl)
theorem dX4_lies_136 : decode cX4_lies 136 = .ok (.iinc 3 1, 3) := dk_132 3 1 (dk_at dksX4_lies_5 21 rfl rfl)
theorem dX4_lies_139 : decode cX4_lies 139 = .ok (.goto (-120), 3) := dk_167 255 136 (dk_at dksX4_lies_6 0 rfl rfl)
theorem dX4_lies_142 : decode cX4_lies 142 = .ok (.iload_n 2, 1) := dk_28 (dk_at dksX4_lies_6 3 rfl rfl)
theorem dX4_lies_143 : decode cX4_lies 143 = .ok (.ireturn, 1) := dk_172 (dk_at dksX4_lies_6 4 rfl rfl)
abbrev cX4_isSet : ByteArray := prog_18_method_85_code
def yX4_isSet : MethodName := ⟨RX4, "isSet", "(I)Z"⟩
def dkwX4_isSet_0 : List UInt8 := [27, 155, 0, 17, 27, 4, 42, 180, 0, 195, 120, 162, 0, 7, 4, 167, 0, 4, 3, 172]
abbrev dktX4_isSet_0 : List UInt8 := dkwX4_isSet_0 ++ []
theorem dksX4_isSet_0 : cX4_isSet.data.toList.drop 0 = dktX4_isSet_0 := by decide +kernel
theorem dX4_isSet_0 : decode cX4_isSet 0 = .ok (.iload_n 1, 1) := dk_27 (dk_at dksX4_isSet_0 0 rfl rfl)
theorem dX4_isSet_1 : decode cX4_isSet 1 = .ok (.ifCond .lt 17, 3) := dk_155 0 17 (dk_at dksX4_isSet_0 1 rfl rfl)
theorem dX4_isSet_4 : decode cX4_isSet 4 = .ok (.iload_n 1, 1) := dk_27 (dk_at dksX4_isSet_0 4 rfl rfl)
theorem dX4_isSet_5 : decode cX4_isSet 5 = .ok (.iconst 1, 1) := dk_4 (dk_at dksX4_isSet_0 5 rfl rfl)
theorem dX4_isSet_6 : decode cX4_isSet 6 = .ok (.aload_n 0, 1) := dk_42 (dk_at dksX4_isSet_0 6 rfl rfl)
theorem dX4_isSet_7 : decode cX4_isSet 7 = .ok (.getfield 195, 3) := dk_180 0 195 (dk_at dksX4_isSet_0 7 rfl rfl)
theorem dX4_isSet_10 : decode cX4_isSet 10 = .ok (.ishl, 1) := dk_120 (dk_at dksX4_isSet_0 10 rfl rfl)
theorem dX4_isSet_11 : decode cX4_isSet 11 = .ok (.if_icmp .ge 7, 3) := dk_162 0 7 (dk_at dksX4_isSet_0 11 rfl rfl)
theorem dX4_isSet_14 : decode cX4_isSet 14 = .ok (.iconst 1, 1) := dk_4 (dk_at dksX4_isSet_0 14 rfl rfl)
theorem dX4_isSet_15 : decode cX4_isSet 15 = .ok (.goto 4, 3) := dk_167 0 4 (dk_at dksX4_isSet_0 15 rfl rfl)
theorem dX4_isSet_18 : decode cX4_isSet 18 = .ok (.iconst 0, 1) := dk_3 (dk_at dksX4_isSet_0 18 rfl rfl)
theorem dX4_isSet_19 : decode cX4_isSet 19 = .ok (.ireturn, 1) := dk_172 (dk_at dksX4_isSet_0 19 rfl rfl)
abbrev cX4_supposed : ByteArray := prog_18_method_89_code
def yX4_supposed : MethodName := ⟨RX4, "supposed", "(I)I"⟩
def dkwX4_supposed_5 : List UInt8 := [29, 46, 120, 128, 61, 132, 3, 1, 167, 255, 166, 28, 172]
abbrev dktX4_supposed_5 : List UInt8 := dkwX4_supposed_5 ++ []
def dkwX4_supposed_4 : List UInt8 := [46, 184, 1, 84, 153, 0, 25, 42, 29, 182, 1, 157, 153, 0, 6, 167, 0, 14, 28, 4, 42, 180, 0, 60]
abbrev dktX4_supposed_4 : List UInt8 := dkwX4_supposed_4 ++ dktX4_supposed_5
def dkwX4_supposed_3 : List UInt8 := [42, 29, 182, 1, 87, 153, 0, 48, 42, 180, 0, 32, 42, 180, 0, 60, 29, 46, 46, 42, 180, 0, 47, 27]
abbrev dktX4_supposed_3 : List UInt8 := dkwX4_supposed_3 ++ dktX4_supposed_4
def dkwX4_supposed_2 : List UInt8 := [182, 1, 65, 153, 0, 74, 42, 180, 0, 54, 29, 46, 27, 160, 0, 64, 42, 29, 182, 1, 154, 153, 0, 56]
abbrev dktX4_supposed_2 : List UInt8 := dkwX4_supposed_2 ++ dktX4_supposed_3
def dkwX4_supposed_1 : List UInt8 := [180, 0, 41, 27, 46, 163, 0, 5, 3, 172, 3, 62, 29, 42, 180, 0, 198, 162, 0, 88, 42, 29]
abbrev dktX4_supposed_1 : List UInt8 := dkwX4_supposed_1 ++ dktX4_supposed_2
def dkwX4_supposed_0 : List UInt8 := [42, 3, 181, 0, 124, 42, 27, 182, 1, 59, 154, 0, 5, 2, 172, 3, 61, 42, 180, 0, 47, 27, 46, 42]
abbrev dktX4_supposed_0 : List UInt8 := dkwX4_supposed_0 ++ dktX4_supposed_1
theorem dksX4_supposed_0 : cX4_supposed.data.toList.drop 0 = dktX4_supposed_0 := by decide +kernel
theorem dksX4_supposed_1 : cX4_supposed.data.toList.drop 24 = dktX4_supposed_1 := dk_seg dksX4_supposed_0 24 rfl rfl
theorem dksX4_supposed_2 : cX4_supposed.data.toList.drop 46 = dktX4_supposed_2 := dk_seg dksX4_supposed_1 22 rfl rfl
theorem dksX4_supposed_3 : cX4_supposed.data.toList.drop 70 = dktX4_supposed_3 := dk_seg dksX4_supposed_2 24 rfl rfl
theorem dksX4_supposed_4 : cX4_supposed.data.toList.drop 94 = dktX4_supposed_4 := dk_seg dksX4_supposed_3 24 rfl rfl
theorem dksX4_supposed_5 : cX4_supposed.data.toList.drop 118 = dktX4_supposed_5 := dk_seg dksX4_supposed_4 24 rfl rfl
theorem dX4_supposed_0 : decode cX4_supposed 0 = .ok (.aload_n 0, 1) := dk_42 (dk_at dksX4_supposed_0 0 rfl rfl)
theorem dX4_supposed_1 : decode cX4_supposed 1 = .ok (.iconst 0, 1) := dk_3 (dk_at dksX4_supposed_0 1 rfl rfl)
theorem dX4_supposed_2 : decode cX4_supposed 2 = .ok (.putfield 124, 3) := dk_181 0 124 (dk_at dksX4_supposed_0 2 rfl rfl)
theorem dX4_supposed_5 : decode cX4_supposed 5 = .ok (.aload_n 0, 1) := dk_42 (dk_at dksX4_supposed_0 5 rfl rfl)
theorem dX4_supposed_6 : decode cX4_supposed 6 = .ok (.iload_n 1, 1) := dk_27 (dk_at dksX4_supposed_0 6 rfl rfl)
theorem dX4_supposed_7 : decode cX4_supposed 7 = .ok (.invokevirtual 315, 3) := dk_182 1 59 (dk_at dksX4_supposed_0 7 rfl rfl)
theorem dX4_supposed_10 : decode cX4_supposed 10 = .ok (.ifCond .ne 5, 3) := dk_154 0 5 (dk_at dksX4_supposed_0 10 rfl rfl)
theorem dX4_supposed_13 : decode cX4_supposed 13 = .ok (.iconst (-1), 1) := dk_2 (dk_at dksX4_supposed_0 13 rfl rfl)
theorem dX4_supposed_14 : decode cX4_supposed 14 = .ok (.ireturn, 1) := dk_172 (dk_at dksX4_supposed_0 14 rfl rfl)
theorem dX4_supposed_15 : decode cX4_supposed 15 = .ok (.iconst 0, 1) := dk_3 (dk_at dksX4_supposed_0 15 rfl rfl)
theorem dX4_supposed_16 : decode cX4_supposed 16 = .ok (.istore_n 2, 1) := dk_61 (dk_at dksX4_supposed_0 16 rfl rfl)
theorem dX4_supposed_17 : decode cX4_supposed 17 = .ok (.aload_n 0, 1) := dk_42 (dk_at dksX4_supposed_0 17 rfl rfl)
theorem dX4_supposed_18 : decode cX4_supposed 18 = .ok (.getfield 47, 3) := dk_180 0 47 (dk_at dksX4_supposed_0 18 rfl rfl)
theorem dX4_supposed_21 : decode cX4_supposed 21 = .ok (.iload_n 1, 1) := dk_27 (dk_at dksX4_supposed_0 21 rfl rfl)
theorem dX4_supposed_22 : decode cX4_supposed 22 = .ok (.iaload, 1) := dk_46 (dk_at dksX4_supposed_0 22 rfl rfl)
theorem dX4_supposed_23 : decode cX4_supposed 23 = .ok (.aload_n 0, 1) := dk_42 (dk_at dksX4_supposed_0 23 rfl rfl)
theorem dX4_supposed_24 : decode cX4_supposed 24 = .ok (.getfield 41, 3) := dk_180 0 41 (dk_at dksX4_supposed_1 0 rfl rfl)
theorem dX4_supposed_27 : decode cX4_supposed 27 = .ok (.iload_n 1, 1) := dk_27 (dk_at dksX4_supposed_1 3 rfl rfl)
theorem dX4_supposed_28 : decode cX4_supposed 28 = .ok (.iaload, 1) := dk_46 (dk_at dksX4_supposed_1 4 rfl rfl)
theorem dX4_supposed_29 : decode cX4_supposed 29 = .ok (.if_icmp .gt 5, 3) := dk_163 0 5 (dk_at dksX4_supposed_1 5 rfl rfl)
theorem dX4_supposed_32 : decode cX4_supposed 32 = .ok (.iconst 0, 1) := dk_3 (dk_at dksX4_supposed_1 8 rfl rfl)
theorem dX4_supposed_33 : decode cX4_supposed 33 = .ok (.ireturn, 1) := dk_172 (dk_at dksX4_supposed_1 9 rfl rfl)
theorem dX4_supposed_34 : decode cX4_supposed 34 = .ok (.iconst 0, 1) := dk_3 (dk_at dksX4_supposed_1 10 rfl rfl)
theorem dX4_supposed_35 : decode cX4_supposed 35 = .ok (.istore_n 3, 1) := dk_62 (dk_at dksX4_supposed_1 11 rfl rfl)
theorem dX4_supposed_36 : decode cX4_supposed 36 = .ok (.iload_n 3, 1) := dk_29 (dk_at dksX4_supposed_1 12 rfl rfl)
theorem dX4_supposed_37 : decode cX4_supposed 37 = .ok (.aload_n 0, 1) := dk_42 (dk_at dksX4_supposed_1 13 rfl rfl)
theorem dX4_supposed_38 : decode cX4_supposed 38 = .ok (.getfield 198, 3) := dk_180 0 198 (dk_at dksX4_supposed_1 14 rfl rfl)
theorem dX4_supposed_41 : decode cX4_supposed 41 = .ok (.if_icmp .ge 88, 3) := dk_162 0 88 (dk_at dksX4_supposed_1 17 rfl rfl)
theorem dX4_supposed_44 : decode cX4_supposed 44 = .ok (.aload_n 0, 1) := dk_42 (dk_at dksX4_supposed_1 20 rfl rfl)
theorem dX4_supposed_45 : decode cX4_supposed 45 = .ok (.iload_n 3, 1) := dk_29 (dk_at dksX4_supposed_1 21 rfl rfl)
theorem dX4_supposed_46 : decode cX4_supposed 46 = .ok (.invokevirtual 321, 3) := dk_182 1 65 (dk_at dksX4_supposed_2 0 rfl rfl)
theorem dX4_supposed_49 : decode cX4_supposed 49 = .ok (.ifCond .eq 74, 3) := dk_153 0 74 (dk_at dksX4_supposed_2 3 rfl rfl)
theorem dX4_supposed_52 : decode cX4_supposed 52 = .ok (.aload_n 0, 1) := dk_42 (dk_at dksX4_supposed_2 6 rfl rfl)
theorem dX4_supposed_53 : decode cX4_supposed 53 = .ok (.getfield 54, 3) := dk_180 0 54 (dk_at dksX4_supposed_2 7 rfl rfl)
theorem dX4_supposed_56 : decode cX4_supposed 56 = .ok (.iload_n 3, 1) := dk_29 (dk_at dksX4_supposed_2 10 rfl rfl)
theorem dX4_supposed_57 : decode cX4_supposed 57 = .ok (.iaload, 1) := dk_46 (dk_at dksX4_supposed_2 11 rfl rfl)
theorem dX4_supposed_58 : decode cX4_supposed 58 = .ok (.iload_n 1, 1) := dk_27 (dk_at dksX4_supposed_2 12 rfl rfl)
theorem dX4_supposed_59 : decode cX4_supposed 59 = .ok (.if_icmp .ne 64, 3) := dk_160 0 64 (dk_at dksX4_supposed_2 13 rfl rfl)
theorem dX4_supposed_62 : decode cX4_supposed 62 = .ok (.aload_n 0, 1) := dk_42 (dk_at dksX4_supposed_2 16 rfl rfl)
theorem dX4_supposed_63 : decode cX4_supposed 63 = .ok (.iload_n 3, 1) := dk_29 (dk_at dksX4_supposed_2 17 rfl rfl)
theorem dX4_supposed_64 : decode cX4_supposed 64 = .ok (.invokevirtual 410, 3) := dk_182 1 154 (dk_at dksX4_supposed_2 18 rfl rfl)
theorem dX4_supposed_67 : decode cX4_supposed 67 = .ok (.ifCond .eq 56, 3) := dk_153 0 56 (dk_at dksX4_supposed_2 21 rfl rfl)
theorem dX4_supposed_70 : decode cX4_supposed 70 = .ok (.aload_n 0, 1) := dk_42 (dk_at dksX4_supposed_3 0 rfl rfl)
theorem dX4_supposed_71 : decode cX4_supposed 71 = .ok (.iload_n 3, 1) := dk_29 (dk_at dksX4_supposed_3 1 rfl rfl)
theorem dX4_supposed_72 : decode cX4_supposed 72 = .ok (.invokevirtual 343, 3) := dk_182 1 87 (dk_at dksX4_supposed_3 2 rfl rfl)
theorem dX4_supposed_75 : decode cX4_supposed 75 = .ok (.ifCond .eq 48, 3) := dk_153 0 48 (dk_at dksX4_supposed_3 5 rfl rfl)
theorem dX4_supposed_78 : decode cX4_supposed 78 = .ok (.aload_n 0, 1) := dk_42 (dk_at dksX4_supposed_3 8 rfl rfl)
theorem dX4_supposed_79 : decode cX4_supposed 79 = .ok (.getfield 32, 3) := dk_180 0 32 (dk_at dksX4_supposed_3 9 rfl rfl)
theorem dX4_supposed_82 : decode cX4_supposed 82 = .ok (.aload_n 0, 1) := dk_42 (dk_at dksX4_supposed_3 12 rfl rfl)
theorem dX4_supposed_83 : decode cX4_supposed 83 = .ok (.getfield 60, 3) := dk_180 0 60 (dk_at dksX4_supposed_3 13 rfl rfl)
theorem dX4_supposed_86 : decode cX4_supposed 86 = .ok (.iload_n 3, 1) := dk_29 (dk_at dksX4_supposed_3 16 rfl rfl)
theorem dX4_supposed_87 : decode cX4_supposed 87 = .ok (.iaload, 1) := dk_46 (dk_at dksX4_supposed_3 17 rfl rfl)
theorem dX4_supposed_88 : decode cX4_supposed 88 = .ok (.iaload, 1) := dk_46 (dk_at dksX4_supposed_3 18 rfl rfl)
theorem dX4_supposed_89 : decode cX4_supposed 89 = .ok (.aload_n 0, 1) := dk_42 (dk_at dksX4_supposed_3 19 rfl rfl)
theorem dX4_supposed_90 : decode cX4_supposed 90 = .ok (.getfield 47, 3) := dk_180 0 47 (dk_at dksX4_supposed_3 20 rfl rfl)
theorem dX4_supposed_93 : decode cX4_supposed 93 = .ok (.iload_n 1, 1) := dk_27 (dk_at dksX4_supposed_3 23 rfl rfl)
theorem dX4_supposed_94 : decode cX4_supposed 94 = .ok (.iaload, 1) := dk_46 (dk_at dksX4_supposed_4 0 rfl rfl)
theorem dX4_supposed_95 : decode cX4_supposed 95 = .ok (.invokestatic 340, 3) := dk_184 1 84 (dk_at dksX4_supposed_4 1 rfl rfl)
theorem dX4_supposed_98 : decode cX4_supposed 98 = .ok (.ifCond .eq 25, 3) := dk_153 0 25 (dk_at dksX4_supposed_4 4 rfl rfl)
theorem dX4_supposed_101 : decode cX4_supposed 101 = .ok (.aload_n 0, 1) := dk_42 (dk_at dksX4_supposed_4 7 rfl rfl)
theorem dX4_supposed_102 : decode cX4_supposed 102 = .ok (.iload_n 3, 1) := dk_29 (dk_at dksX4_supposed_4 8 rfl rfl)
theorem dX4_supposed_103 : decode cX4_supposed 103 = .ok (.invokevirtual 413, 3) := dk_182 1 157 (dk_at dksX4_supposed_4 9 rfl rfl)
theorem dX4_supposed_106 : decode cX4_supposed 106 = .ok (.ifCond .eq 6, 3) := dk_153 0 6 (dk_at dksX4_supposed_4 12 rfl rfl)
theorem dX4_supposed_109 : decode cX4_supposed 109 = .ok (.goto 14, 3) := dk_167 0 14 (dk_at dksX4_supposed_4 15 rfl rfl)
theorem dX4_supposed_112 : decode cX4_supposed 112 = .ok (.iload_n 2, 1) := dk_28 (dk_at dksX4_supposed_4 18 rfl rfl)
theorem dX4_supposed_113 : decode cX4_supposed 113 = .ok (.iconst 1, 1) := dk_4 (dk_at dksX4_supposed_4 19 rfl rfl)
theorem dX4_supposed_114 : decode cX4_supposed 114 = .ok (.aload_n 0, 1) := dk_42 (dk_at dksX4_supposed_4 20 rfl rfl)
theorem dX4_supposed_115 : decode cX4_supposed 115 = .ok (.getfield 60, 3) := dk_180 0 60 (dk_at dksX4_supposed_4 21 rfl rfl)
theorem dX4_supposed_118 : decode cX4_supposed 118 = .ok (.iload_n 3, 1) := dk_29 (dk_at dksX4_supposed_5 0 rfl rfl)
theorem dX4_supposed_119 : decode cX4_supposed 119 = .ok (.iaload, 1) := dk_46 (dk_at dksX4_supposed_5 1 rfl rfl)
theorem dX4_supposed_120 : decode cX4_supposed 120 = .ok (.ishl, 1) := dk_120 (dk_at dksX4_supposed_5 2 rfl rfl)
theorem dX4_supposed_121 : decode cX4_supposed 121 = .ok (.ior, 1) := dk_128 (dk_at dksX4_supposed_5 3 rfl rfl)
theorem dX4_supposed_122 : decode cX4_supposed 122 = .ok (.istore_n 2, 1) := dk_61 (dk_at dksX4_supposed_5 4 rfl rfl)
theorem dX4_supposed_123 : decode cX4_supposed 123 = .ok (.iinc 3 1, 3) := dk_132 3 1 (dk_at dksX4_supposed_5 5 rfl rfl)
theorem dX4_supposed_126 : decode cX4_supposed 126 = .ok (.goto (-90), 3) := dk_167 255 166 (dk_at dksX4_supposed_5 8 rfl rfl)
theorem dX4_supposed_129 : decode cX4_supposed 129 = .ok (.iload_n 2, 1) := dk_28 (dk_at dksX4_supposed_5 11 rfl rfl)
theorem dX4_supposed_130 : decode cX4_supposed 130 = .ok (.ireturn, 1) := dk_172 (dk_at dksX4_supposed_5 12 rfl rfl)
abbrev cX4_isTaped : ByteArray := prog_18_method_87_code
def yX4_isTaped : MethodName := ⟨RX4, "isTaped", "(I)Z"⟩
def dkwX4_isTaped_1 : List UInt8 := [42, 180, 0, 54, 27, 46, 46, 161, 0, 7, 4, 167, 0, 4, 3, 172]
abbrev dktX4_isTaped_1 : List UInt8 := dkwX4_isTaped_1 ++ []
def dkwX4_isTaped_0 : List UInt8 := [42, 180, 0, 47, 42, 180, 0, 54, 27, 46, 46, 155, 0, 27, 42, 180, 0, 57, 27, 46, 42, 180, 0, 47]
abbrev dktX4_isTaped_0 : List UInt8 := dkwX4_isTaped_0 ++ dktX4_isTaped_1
theorem dksX4_isTaped_0 : cX4_isTaped.data.toList.drop 0 = dktX4_isTaped_0 := by decide +kernel
theorem dksX4_isTaped_1 : cX4_isTaped.data.toList.drop 24 = dktX4_isTaped_1 := dk_seg dksX4_isTaped_0 24 rfl rfl
theorem dX4_isTaped_0 : decode cX4_isTaped 0 = .ok (.aload_n 0, 1) := dk_42 (dk_at dksX4_isTaped_0 0 rfl rfl)
theorem dX4_isTaped_1 : decode cX4_isTaped 1 = .ok (.getfield 47, 3) := dk_180 0 47 (dk_at dksX4_isTaped_0 1 rfl rfl)
theorem dX4_isTaped_4 : decode cX4_isTaped 4 = .ok (.aload_n 0, 1) := dk_42 (dk_at dksX4_isTaped_0 4 rfl rfl)
theorem dX4_isTaped_5 : decode cX4_isTaped 5 = .ok (.getfield 54, 3) := dk_180 0 54 (dk_at dksX4_isTaped_0 5 rfl rfl)
theorem dX4_isTaped_8 : decode cX4_isTaped 8 = .ok (.iload_n 1, 1) := dk_27 (dk_at dksX4_isTaped_0 8 rfl rfl)
theorem dX4_isTaped_9 : decode cX4_isTaped 9 = .ok (.iaload, 1) := dk_46 (dk_at dksX4_isTaped_0 9 rfl rfl)
theorem dX4_isTaped_10 : decode cX4_isTaped 10 = .ok (.iaload, 1) := dk_46 (dk_at dksX4_isTaped_0 10 rfl rfl)
theorem dX4_isTaped_11 : decode cX4_isTaped 11 = .ok (.ifCond .lt 27, 3) := dk_155 0 27 (dk_at dksX4_isTaped_0 11 rfl rfl)
theorem dX4_isTaped_14 : decode cX4_isTaped 14 = .ok (.aload_n 0, 1) := dk_42 (dk_at dksX4_isTaped_0 14 rfl rfl)
theorem dX4_isTaped_15 : decode cX4_isTaped 15 = .ok (.getfield 57, 3) := dk_180 0 57 (dk_at dksX4_isTaped_0 15 rfl rfl)
theorem dX4_isTaped_18 : decode cX4_isTaped 18 = .ok (.iload_n 1, 1) := dk_27 (dk_at dksX4_isTaped_0 18 rfl rfl)
theorem dX4_isTaped_19 : decode cX4_isTaped 19 = .ok (.iaload, 1) := dk_46 (dk_at dksX4_isTaped_0 19 rfl rfl)
theorem dX4_isTaped_20 : decode cX4_isTaped 20 = .ok (.aload_n 0, 1) := dk_42 (dk_at dksX4_isTaped_0 20 rfl rfl)
theorem dX4_isTaped_21 : decode cX4_isTaped 21 = .ok (.getfield 47, 3) := dk_180 0 47 (dk_at dksX4_isTaped_0 21 rfl rfl)
theorem dX4_isTaped_24 : decode cX4_isTaped 24 = .ok (.aload_n 0, 1) := dk_42 (dk_at dksX4_isTaped_1 0 rfl rfl)
theorem dX4_isTaped_25 : decode cX4_isTaped 25 = .ok (.getfield 54, 3) := dk_180 0 54 (dk_at dksX4_isTaped_1 1 rfl rfl)
theorem dX4_isTaped_28 : decode cX4_isTaped 28 = .ok (.iload_n 1, 1) := dk_27 (dk_at dksX4_isTaped_1 4 rfl rfl)
theorem dX4_isTaped_29 : decode cX4_isTaped 29 = .ok (.iaload, 1) := dk_46 (dk_at dksX4_isTaped_1 5 rfl rfl)
theorem dX4_isTaped_30 : decode cX4_isTaped 30 = .ok (.iaload, 1) := dk_46 (dk_at dksX4_isTaped_1 6 rfl rfl)
theorem dX4_isTaped_31 : decode cX4_isTaped 31 = .ok (.if_icmp .lt 7, 3) := dk_161 0 7 (dk_at dksX4_isTaped_1 7 rfl rfl)
theorem dX4_isTaped_34 : decode cX4_isTaped 34 = .ok (.iconst 1, 1) := dk_4 (dk_at dksX4_isTaped_1 10 rfl rfl)
theorem dX4_isTaped_35 : decode cX4_isTaped 35 = .ok (.goto 4, 3) := dk_167 0 4 (dk_at dksX4_isTaped_1 11 rfl rfl)
theorem dX4_isTaped_38 : decode cX4_isTaped 38 = .ok (.iconst 0, 1) := dk_3 (dk_at dksX4_isTaped_1 14 rfl rfl)
theorem dX4_isTaped_39 : decode cX4_isTaped 39 = .ok (.ireturn, 1) := dk_172 (dk_at dksX4_isTaped_1 15 rfl rfl)
abbrev cX4_wasAsked : ByteArray := prog_18_method_88_code
def yX4_wasAsked : MethodName := ⟨RX4, "wasAsked", "(I)Z"⟩
def dkwX4_wasAsked_2 : List UInt8 := [132, 2, 1, 167, 255, 209, 3, 172]
abbrev dktX4_wasAsked_2 : List UInt8 := dkwX4_wasAsked_2 ++ []
def dkwX4_wasAsked_1 : List UInt8 := [180, 0, 60, 28, 46, 42, 180, 0, 60, 27, 46, 160, 0, 13, 42, 28, 182, 1, 154, 153, 0, 5, 4, 172]
abbrev dktX4_wasAsked_1 : List UInt8 := dkwX4_wasAsked_1 ++ dktX4_wasAsked_2
def dkwX4_wasAsked_0 : List UInt8 := [3, 61, 28, 27, 162, 0, 48, 42, 28, 42, 180, 0, 54, 27, 46, 182, 1, 78, 153, 0, 28, 42]
abbrev dktX4_wasAsked_0 : List UInt8 := dkwX4_wasAsked_0 ++ dktX4_wasAsked_1
theorem dksX4_wasAsked_0 : cX4_wasAsked.data.toList.drop 0 = dktX4_wasAsked_0 := by decide +kernel
theorem dksX4_wasAsked_1 : cX4_wasAsked.data.toList.drop 22 = dktX4_wasAsked_1 := dk_seg dksX4_wasAsked_0 22 rfl rfl
theorem dksX4_wasAsked_2 : cX4_wasAsked.data.toList.drop 46 = dktX4_wasAsked_2 := dk_seg dksX4_wasAsked_1 24 rfl rfl
theorem dX4_wasAsked_0 : decode cX4_wasAsked 0 = .ok (.iconst 0, 1) := dk_3 (dk_at dksX4_wasAsked_0 0 rfl rfl)
theorem dX4_wasAsked_1 : decode cX4_wasAsked 1 = .ok (.istore_n 2, 1) := dk_61 (dk_at dksX4_wasAsked_0 1 rfl rfl)
theorem dX4_wasAsked_2 : decode cX4_wasAsked 2 = .ok (.iload_n 2, 1) := dk_28 (dk_at dksX4_wasAsked_0 2 rfl rfl)
theorem dX4_wasAsked_3 : decode cX4_wasAsked 3 = .ok (.iload_n 1, 1) := dk_27 (dk_at dksX4_wasAsked_0 3 rfl rfl)
theorem dX4_wasAsked_4 : decode cX4_wasAsked 4 = .ok (.if_icmp .ge 48, 3) := dk_162 0 48 (dk_at dksX4_wasAsked_0 4 rfl rfl)
theorem dX4_wasAsked_7 : decode cX4_wasAsked 7 = .ok (.aload_n 0, 1) := dk_42 (dk_at dksX4_wasAsked_0 7 rfl rfl)
theorem dX4_wasAsked_8 : decode cX4_wasAsked 8 = .ok (.iload_n 2, 1) := dk_28 (dk_at dksX4_wasAsked_0 8 rfl rfl)
theorem dX4_wasAsked_9 : decode cX4_wasAsked 9 = .ok (.aload_n 0, 1) := dk_42 (dk_at dksX4_wasAsked_0 9 rfl rfl)
theorem dX4_wasAsked_10 : decode cX4_wasAsked 10 = .ok (.getfield 54, 3) := dk_180 0 54 (dk_at dksX4_wasAsked_0 10 rfl rfl)
theorem dX4_wasAsked_13 : decode cX4_wasAsked 13 = .ok (.iload_n 1, 1) := dk_27 (dk_at dksX4_wasAsked_0 13 rfl rfl)
theorem dX4_wasAsked_14 : decode cX4_wasAsked 14 = .ok (.iaload, 1) := dk_46 (dk_at dksX4_wasAsked_0 14 rfl rfl)
theorem dX4_wasAsked_15 : decode cX4_wasAsked 15 = .ok (.invokevirtual 334, 3) := dk_182 1 78 (dk_at dksX4_wasAsked_0 15 rfl rfl)
theorem dX4_wasAsked_18 : decode cX4_wasAsked 18 = .ok (.ifCond .eq 28, 3) := dk_153 0 28 (dk_at dksX4_wasAsked_0 18 rfl rfl)
theorem dX4_wasAsked_21 : decode cX4_wasAsked 21 = .ok (.aload_n 0, 1) := dk_42 (dk_at dksX4_wasAsked_0 21 rfl rfl)
theorem dX4_wasAsked_22 : decode cX4_wasAsked 22 = .ok (.getfield 60, 3) := dk_180 0 60 (dk_at dksX4_wasAsked_1 0 rfl rfl)
theorem dX4_wasAsked_25 : decode cX4_wasAsked 25 = .ok (.iload_n 2, 1) := dk_28 (dk_at dksX4_wasAsked_1 3 rfl rfl)
theorem dX4_wasAsked_26 : decode cX4_wasAsked 26 = .ok (.iaload, 1) := dk_46 (dk_at dksX4_wasAsked_1 4 rfl rfl)
theorem dX4_wasAsked_27 : decode cX4_wasAsked 27 = .ok (.aload_n 0, 1) := dk_42 (dk_at dksX4_wasAsked_1 5 rfl rfl)
theorem dX4_wasAsked_28 : decode cX4_wasAsked 28 = .ok (.getfield 60, 3) := dk_180 0 60 (dk_at dksX4_wasAsked_1 6 rfl rfl)
theorem dX4_wasAsked_31 : decode cX4_wasAsked 31 = .ok (.iload_n 1, 1) := dk_27 (dk_at dksX4_wasAsked_1 9 rfl rfl)
theorem dX4_wasAsked_32 : decode cX4_wasAsked 32 = .ok (.iaload, 1) := dk_46 (dk_at dksX4_wasAsked_1 10 rfl rfl)
theorem dX4_wasAsked_33 : decode cX4_wasAsked 33 = .ok (.if_icmp .ne 13, 3) := dk_160 0 13 (dk_at dksX4_wasAsked_1 11 rfl rfl)
theorem dX4_wasAsked_36 : decode cX4_wasAsked 36 = .ok (.aload_n 0, 1) := dk_42 (dk_at dksX4_wasAsked_1 14 rfl rfl)
theorem dX4_wasAsked_37 : decode cX4_wasAsked 37 = .ok (.iload_n 2, 1) := dk_28 (dk_at dksX4_wasAsked_1 15 rfl rfl)
theorem dX4_wasAsked_38 : decode cX4_wasAsked 38 = .ok (.invokevirtual 410, 3) := dk_182 1 154 (dk_at dksX4_wasAsked_1 16 rfl rfl)
theorem dX4_wasAsked_41 : decode cX4_wasAsked 41 = .ok (.ifCond .eq 5, 3) := dk_153 0 5 (dk_at dksX4_wasAsked_1 19 rfl rfl)
theorem dX4_wasAsked_44 : decode cX4_wasAsked 44 = .ok (.iconst 1, 1) := dk_4 (dk_at dksX4_wasAsked_1 22 rfl rfl)
theorem dX4_wasAsked_45 : decode cX4_wasAsked 45 = .ok (.ireturn, 1) := dk_172 (dk_at dksX4_wasAsked_1 23 rfl rfl)
theorem dX4_wasAsked_46 : decode cX4_wasAsked 46 = .ok (.iinc 2 1, 3) := dk_132 2 1 (dk_at dksX4_wasAsked_2 0 rfl rfl)
theorem dX4_wasAsked_49 : decode cX4_wasAsked 49 = .ok (.goto (-47), 3) := dk_167 255 209 (dk_at dksX4_wasAsked_2 3 rfl rfl)
theorem dX4_wasAsked_52 : decode cX4_wasAsked 52 = .ok (.iconst 0, 1) := dk_3 (dk_at dksX4_wasAsked_2 6 rfl rfl)
theorem dX4_wasAsked_53 : decode cX4_wasAsked 53 = .ok (.ireturn, 1) := dk_172 (dk_at dksX4_wasAsked_2 7 rfl rfl)
abbrev cX4_law : ByteArray := prog_18_method_100_code
def yX4_law : MethodName := ⟨RX4, "law", "(I)I"⟩
def dkwX4_law_0 : List UInt8 := [42, 3, 181, 0, 124, 42, 27, 182, 1, 65, 153, 0, 11, 42, 27, 182, 1, 196, 167, 0, 4, 2, 172]
abbrev dktX4_law_0 : List UInt8 := dkwX4_law_0 ++ []
theorem dksX4_law_0 : cX4_law.data.toList.drop 0 = dktX4_law_0 := by decide +kernel
theorem dX4_law_0 : decode cX4_law 0 = .ok (.aload_n 0, 1) := dk_42 (dk_at dksX4_law_0 0 rfl rfl)
theorem dX4_law_1 : decode cX4_law 1 = .ok (.iconst 0, 1) := dk_3 (dk_at dksX4_law_0 1 rfl rfl)
theorem dX4_law_2 : decode cX4_law 2 = .ok (.putfield 124, 3) := dk_181 0 124 (dk_at dksX4_law_0 2 rfl rfl)
theorem dX4_law_5 : decode cX4_law 5 = .ok (.aload_n 0, 1) := dk_42 (dk_at dksX4_law_0 5 rfl rfl)
theorem dX4_law_6 : decode cX4_law 6 = .ok (.iload_n 1, 1) := dk_27 (dk_at dksX4_law_0 6 rfl rfl)
theorem dX4_law_7 : decode cX4_law 7 = .ok (.invokevirtual 321, 3) := dk_182 1 65 (dk_at dksX4_law_0 7 rfl rfl)
theorem dX4_law_10 : decode cX4_law 10 = .ok (.ifCond .eq 11, 3) := dk_153 0 11 (dk_at dksX4_law_0 10 rfl rfl)
theorem dX4_law_13 : decode cX4_law 13 = .ok (.aload_n 0, 1) := dk_42 (dk_at dksX4_law_0 13 rfl rfl)
theorem dX4_law_14 : decode cX4_law 14 = .ok (.iload_n 1, 1) := dk_27 (dk_at dksX4_law_0 14 rfl rfl)
theorem dX4_law_15 : decode cX4_law 15 = .ok (.invokevirtual 452, 3) := dk_182 1 196 (dk_at dksX4_law_0 15 rfl rfl)
theorem dX4_law_18 : decode cX4_law 18 = .ok (.goto 4, 3) := dk_167 0 4 (dk_at dksX4_law_0 18 rfl rfl)
theorem dX4_law_21 : decode cX4_law 21 = .ok (.iconst (-1), 1) := dk_2 (dk_at dksX4_law_0 21 rfl rfl)
theorem dX4_law_22 : decode cX4_law 22 = .ok (.ireturn, 1) := dk_172 (dk_at dksX4_law_0 22 rfl rfl)
abbrev cX4_lawAt : ByteArray := prog_18_method_99_code
def yX4_lawAt : MethodName := ⟨RX4, "lawAt", "(I)I"⟩
def dkwX4_lawAt_6 : List UInt8 := [3, 167, 0, 18, 33, 20, 1, 194, 148, 158, 0, 8, 16, 100, 167, 0, 5, 33, 136, 172]
abbrev dktX4_lawAt_6 : List UInt8 := dkwX4_lawAt_6 ++ []
def dkwX4_lawAt_5 : List UInt8 := [42, 3, 182, 1, 185, 66, 42, 180, 1, 160, 153, 0, 8, 16, 50, 167, 0, 28, 33, 9, 148, 156, 0, 7]
abbrev dktX4_lawAt_5 : List UInt8 := dkwX4_lawAt_5 ++ dktX4_lawAt_6
def dkwX4_lawAt_4 : List UInt8 := [92, 47, 42, 180, 0, 63, 29, 46, 155, 0, 7, 10, 167, 0, 4, 9, 97, 80, 132, 3, 1, 167, 255, 203]
abbrev dktX4_lawAt_4 : List UInt8 := dkwX4_lawAt_4 ++ dktX4_lawAt_5
def dkwX4_lawAt_3 : List UInt8 := [182, 1, 78, 154, 0, 6, 167, 0, 36, 42, 180, 0, 111, 6, 92, 47, 10, 97, 80, 42, 180, 0, 111, 7]
abbrev dktX4_lawAt_3 : List UInt8 := dkwX4_lawAt_3 ++ dktX4_lawAt_4
def dkwX4_lawAt_2 : List UInt8 := [42, 28, 42, 180, 0, 57, 27, 46, 182, 1, 191, 133, 80, 3, 62, 29, 27, 162, 0, 54, 42, 29, 28]
abbrev dktX4_lawAt_2 : List UInt8 := dkwX4_lawAt_2 ++ dktX4_lawAt_3
def dkwX4_lawAt_1 : List UInt8 := [180, 0, 111, 4, 42, 180, 0, 57, 27, 46, 42, 180, 0, 41, 28, 46, 100, 133, 80, 42, 180, 0, 111, 5]
abbrev dktX4_lawAt_1 : List UInt8 := dkwX4_lawAt_1 ++ dktX4_lawAt_2
def dkwX4_lawAt_0 : List UInt8 := [42, 3, 182, 1, 182, 154, 0, 6, 16, 50, 172, 42, 180, 0, 54, 27, 46, 61, 42, 28, 182, 1, 188, 42]
abbrev dktX4_lawAt_0 : List UInt8 := dkwX4_lawAt_0 ++ dktX4_lawAt_1
theorem dksX4_lawAt_0 : cX4_lawAt.data.toList.drop 0 = dktX4_lawAt_0 := by decide +kernel
theorem dksX4_lawAt_1 : cX4_lawAt.data.toList.drop 24 = dktX4_lawAt_1 := dk_seg dksX4_lawAt_0 24 rfl rfl
theorem dksX4_lawAt_2 : cX4_lawAt.data.toList.drop 48 = dktX4_lawAt_2 := dk_seg dksX4_lawAt_1 24 rfl rfl
theorem dksX4_lawAt_3 : cX4_lawAt.data.toList.drop 71 = dktX4_lawAt_3 := dk_seg dksX4_lawAt_2 23 rfl rfl
theorem dksX4_lawAt_4 : cX4_lawAt.data.toList.drop 95 = dktX4_lawAt_4 := dk_seg dksX4_lawAt_3 24 rfl rfl
theorem dksX4_lawAt_5 : cX4_lawAt.data.toList.drop 119 = dktX4_lawAt_5 := dk_seg dksX4_lawAt_4 24 rfl rfl
theorem dksX4_lawAt_6 : cX4_lawAt.data.toList.drop 143 = dktX4_lawAt_6 := dk_seg dksX4_lawAt_5 24 rfl rfl
theorem dX4_lawAt_0 : decode cX4_lawAt 0 = .ok (.aload_n 0, 1) := dk_42 (dk_at dksX4_lawAt_0 0 rfl rfl)
theorem dX4_lawAt_1 : decode cX4_lawAt 1 = .ok (.iconst 0, 1) := dk_3 (dk_at dksX4_lawAt_0 1 rfl rfl)
theorem dX4_lawAt_2 : decode cX4_lawAt 2 = .ok (.invokevirtual 438, 3) := dk_182 1 182 (dk_at dksX4_lawAt_0 2 rfl rfl)
theorem dX4_lawAt_5 : decode cX4_lawAt 5 = .ok (.ifCond .ne 6, 3) := dk_154 0 6 (dk_at dksX4_lawAt_0 5 rfl rfl)
theorem dX4_lawAt_8 : decode cX4_lawAt 8 = .ok (.bipush 50, 2) := dk_16 50 (dk_at dksX4_lawAt_0 8 rfl rfl)
theorem dX4_lawAt_10 : decode cX4_lawAt 10 = .ok (.ireturn, 1) := dk_172 (dk_at dksX4_lawAt_0 10 rfl rfl)
theorem dX4_lawAt_11 : decode cX4_lawAt 11 = .ok (.aload_n 0, 1) := dk_42 (dk_at dksX4_lawAt_0 11 rfl rfl)
theorem dX4_lawAt_12 : decode cX4_lawAt 12 = .ok (.getfield 54, 3) := dk_180 0 54 (dk_at dksX4_lawAt_0 12 rfl rfl)
theorem dX4_lawAt_15 : decode cX4_lawAt 15 = .ok (.iload_n 1, 1) := dk_27 (dk_at dksX4_lawAt_0 15 rfl rfl)
theorem dX4_lawAt_16 : decode cX4_lawAt 16 = .ok (.iaload, 1) := dk_46 (dk_at dksX4_lawAt_0 16 rfl rfl)
theorem dX4_lawAt_17 : decode cX4_lawAt 17 = .ok (.istore_n 2, 1) := dk_61 (dk_at dksX4_lawAt_0 17 rfl rfl)
theorem dX4_lawAt_18 : decode cX4_lawAt 18 = .ok (.aload_n 0, 1) := dk_42 (dk_at dksX4_lawAt_0 18 rfl rfl)
theorem dX4_lawAt_19 : decode cX4_lawAt 19 = .ok (.iload_n 2, 1) := dk_28 (dk_at dksX4_lawAt_0 19 rfl rfl)
theorem dX4_lawAt_20 : decode cX4_lawAt 20 = .ok (.invokevirtual 444, 3) := dk_182 1 188 (dk_at dksX4_lawAt_0 20 rfl rfl)
theorem dX4_lawAt_23 : decode cX4_lawAt 23 = .ok (.aload_n 0, 1) := dk_42 (dk_at dksX4_lawAt_0 23 rfl rfl)
theorem dX4_lawAt_24 : decode cX4_lawAt 24 = .ok (.getfield 111, 3) := dk_180 0 111 (dk_at dksX4_lawAt_1 0 rfl rfl)
theorem dX4_lawAt_27 : decode cX4_lawAt 27 = .ok (.iconst 1, 1) := dk_4 (dk_at dksX4_lawAt_1 3 rfl rfl)
theorem dX4_lawAt_28 : decode cX4_lawAt 28 = .ok (.aload_n 0, 1) := dk_42 (dk_at dksX4_lawAt_1 4 rfl rfl)
theorem dX4_lawAt_29 : decode cX4_lawAt 29 = .ok (.getfield 57, 3) := dk_180 0 57 (dk_at dksX4_lawAt_1 5 rfl rfl)
theorem dX4_lawAt_32 : decode cX4_lawAt 32 = .ok (.iload_n 1, 1) := dk_27 (dk_at dksX4_lawAt_1 8 rfl rfl)
theorem dX4_lawAt_33 : decode cX4_lawAt 33 = .ok (.iaload, 1) := dk_46 (dk_at dksX4_lawAt_1 9 rfl rfl)
theorem dX4_lawAt_34 : decode cX4_lawAt 34 = .ok (.aload_n 0, 1) := dk_42 (dk_at dksX4_lawAt_1 10 rfl rfl)
theorem dX4_lawAt_35 : decode cX4_lawAt 35 = .ok (.getfield 41, 3) := dk_180 0 41 (dk_at dksX4_lawAt_1 11 rfl rfl)
theorem dX4_lawAt_38 : decode cX4_lawAt 38 = .ok (.iload_n 2, 1) := dk_28 (dk_at dksX4_lawAt_1 14 rfl rfl)
theorem dX4_lawAt_39 : decode cX4_lawAt 39 = .ok (.iaload, 1) := dk_46 (dk_at dksX4_lawAt_1 15 rfl rfl)
theorem dX4_lawAt_40 : decode cX4_lawAt 40 = .ok (.isub, 1) := dk_100 (dk_at dksX4_lawAt_1 16 rfl rfl)
theorem dX4_lawAt_41 : decode cX4_lawAt 41 = .ok (.i2l, 1) := dk_133 (dk_at dksX4_lawAt_1 17 rfl rfl)
theorem dX4_lawAt_42 : decode cX4_lawAt 42 = .ok (.lastore, 1) := dk_80 (dk_at dksX4_lawAt_1 18 rfl rfl)
theorem dX4_lawAt_43 : decode cX4_lawAt 43 = .ok (.aload_n 0, 1) := dk_42 (dk_at dksX4_lawAt_1 19 rfl rfl)
theorem dX4_lawAt_44 : decode cX4_lawAt 44 = .ok (.getfield 111, 3) := dk_180 0 111 (dk_at dksX4_lawAt_1 20 rfl rfl)
theorem dX4_lawAt_47 : decode cX4_lawAt 47 = .ok (.iconst 2, 1) := dk_5 (dk_at dksX4_lawAt_1 23 rfl rfl)
theorem dX4_lawAt_48 : decode cX4_lawAt 48 = .ok (.aload_n 0, 1) := dk_42 (dk_at dksX4_lawAt_2 0 rfl rfl)
theorem dX4_lawAt_49 : decode cX4_lawAt 49 = .ok (.iload_n 2, 1) := dk_28 (dk_at dksX4_lawAt_2 1 rfl rfl)
theorem dX4_lawAt_50 : decode cX4_lawAt 50 = .ok (.aload_n 0, 1) := dk_42 (dk_at dksX4_lawAt_2 2 rfl rfl)
theorem dX4_lawAt_51 : decode cX4_lawAt 51 = .ok (.getfield 57, 3) := dk_180 0 57 (dk_at dksX4_lawAt_2 3 rfl rfl)
theorem dX4_lawAt_54 : decode cX4_lawAt 54 = .ok (.iload_n 1, 1) := dk_27 (dk_at dksX4_lawAt_2 6 rfl rfl)
theorem dX4_lawAt_55 : decode cX4_lawAt 55 = .ok (.iaload, 1) := dk_46 (dk_at dksX4_lawAt_2 7 rfl rfl)
theorem dX4_lawAt_56 : decode cX4_lawAt 56 = .ok (.invokevirtual 447, 3) := dk_182 1 191 (dk_at dksX4_lawAt_2 8 rfl rfl)
theorem dX4_lawAt_59 : decode cX4_lawAt 59 = .ok (.i2l, 1) := dk_133 (dk_at dksX4_lawAt_2 11 rfl rfl)
theorem dX4_lawAt_60 : decode cX4_lawAt 60 = .ok (.lastore, 1) := dk_80 (dk_at dksX4_lawAt_2 12 rfl rfl)
theorem dX4_lawAt_61 : decode cX4_lawAt 61 = .ok (.iconst 0, 1) := dk_3 (dk_at dksX4_lawAt_2 13 rfl rfl)
theorem dX4_lawAt_62 : decode cX4_lawAt 62 = .ok (.istore_n 3, 1) := dk_62 (dk_at dksX4_lawAt_2 14 rfl rfl)
theorem dX4_lawAt_63 : decode cX4_lawAt 63 = .ok (.iload_n 3, 1) := dk_29 (dk_at dksX4_lawAt_2 15 rfl rfl)
theorem dX4_lawAt_64 : decode cX4_lawAt 64 = .ok (.iload_n 1, 1) := dk_27 (dk_at dksX4_lawAt_2 16 rfl rfl)
theorem dX4_lawAt_65 : decode cX4_lawAt 65 = .ok (.if_icmp .ge 54, 3) := dk_162 0 54 (dk_at dksX4_lawAt_2 17 rfl rfl)
theorem dX4_lawAt_68 : decode cX4_lawAt 68 = .ok (.aload_n 0, 1) := dk_42 (dk_at dksX4_lawAt_2 20 rfl rfl)
theorem dX4_lawAt_69 : decode cX4_lawAt 69 = .ok (.iload_n 3, 1) := dk_29 (dk_at dksX4_lawAt_2 21 rfl rfl)
theorem dX4_lawAt_70 : decode cX4_lawAt 70 = .ok (.iload_n 2, 1) := dk_28 (dk_at dksX4_lawAt_2 22 rfl rfl)
theorem dX4_lawAt_71 : decode cX4_lawAt 71 = .ok (.invokevirtual 334, 3) := dk_182 1 78 (dk_at dksX4_lawAt_3 0 rfl rfl)
theorem dX4_lawAt_74 : decode cX4_lawAt 74 = .ok (.ifCond .ne 6, 3) := dk_154 0 6 (dk_at dksX4_lawAt_3 3 rfl rfl)
theorem dX4_lawAt_77 : decode cX4_lawAt 77 = .ok (.goto 36, 3) := dk_167 0 36 (dk_at dksX4_lawAt_3 6 rfl rfl)
theorem dX4_lawAt_80 : decode cX4_lawAt 80 = .ok (.aload_n 0, 1) := dk_42 (dk_at dksX4_lawAt_3 9 rfl rfl)
theorem dX4_lawAt_81 : decode cX4_lawAt 81 = .ok (.getfield 111, 3) := dk_180 0 111 (dk_at dksX4_lawAt_3 10 rfl rfl)
theorem dX4_lawAt_84 : decode cX4_lawAt 84 = .ok (.iconst 3, 1) := dk_6 (dk_at dksX4_lawAt_3 13 rfl rfl)
theorem dX4_lawAt_85 : decode cX4_lawAt 85 = .ok (.dup2, 1) := dk_92 (dk_at dksX4_lawAt_3 14 rfl rfl)
theorem dX4_lawAt_86 : decode cX4_lawAt 86 = .ok (.laload, 1) := dk_47 (dk_at dksX4_lawAt_3 15 rfl rfl)
theorem dX4_lawAt_87 : decode cX4_lawAt 87 = .ok (.lconst 1, 1) := dk_10 (dk_at dksX4_lawAt_3 16 rfl rfl)
theorem dX4_lawAt_88 : decode cX4_lawAt 88 = .ok (.ladd, 1) := dk_97 (dk_at dksX4_lawAt_3 17 rfl rfl)
theorem dX4_lawAt_89 : decode cX4_lawAt 89 = .ok (.lastore, 1) := dk_80 (dk_at dksX4_lawAt_3 18 rfl rfl)
theorem dX4_lawAt_90 : decode cX4_lawAt 90 = .ok (.aload_n 0, 1) := dk_42 (dk_at dksX4_lawAt_3 19 rfl rfl)
theorem dX4_lawAt_91 : decode cX4_lawAt 91 = .ok (.getfield 111, 3) := dk_180 0 111 (dk_at dksX4_lawAt_3 20 rfl rfl)
theorem dX4_lawAt_94 : decode cX4_lawAt 94 = .ok (.iconst 4, 1) := dk_7 (dk_at dksX4_lawAt_3 23 rfl rfl)
theorem dX4_lawAt_95 : decode cX4_lawAt 95 = .ok (.dup2, 1) := dk_92 (dk_at dksX4_lawAt_4 0 rfl rfl)
theorem dX4_lawAt_96 : decode cX4_lawAt 96 = .ok (.laload, 1) := dk_47 (dk_at dksX4_lawAt_4 1 rfl rfl)
theorem dX4_lawAt_97 : decode cX4_lawAt 97 = .ok (.aload_n 0, 1) := dk_42 (dk_at dksX4_lawAt_4 2 rfl rfl)
theorem dX4_lawAt_98 : decode cX4_lawAt 98 = .ok (.getfield 63, 3) := dk_180 0 63 (dk_at dksX4_lawAt_4 3 rfl rfl)
theorem dX4_lawAt_101 : decode cX4_lawAt 101 = .ok (.iload_n 3, 1) := dk_29 (dk_at dksX4_lawAt_4 6 rfl rfl)
theorem dX4_lawAt_102 : decode cX4_lawAt 102 = .ok (.iaload, 1) := dk_46 (dk_at dksX4_lawAt_4 7 rfl rfl)
theorem dX4_lawAt_103 : decode cX4_lawAt 103 = .ok (.ifCond .lt 7, 3) := dk_155 0 7 (dk_at dksX4_lawAt_4 8 rfl rfl)
theorem dX4_lawAt_106 : decode cX4_lawAt 106 = .ok (.lconst 1, 1) := dk_10 (dk_at dksX4_lawAt_4 11 rfl rfl)
theorem dX4_lawAt_107 : decode cX4_lawAt 107 = .ok (.goto 4, 3) := dk_167 0 4 (dk_at dksX4_lawAt_4 12 rfl rfl)
theorem dX4_lawAt_110 : decode cX4_lawAt 110 = .ok (.lconst 0, 1) := dk_9 (dk_at dksX4_lawAt_4 15 rfl rfl)
theorem dX4_lawAt_111 : decode cX4_lawAt 111 = .ok (.ladd, 1) := dk_97 (dk_at dksX4_lawAt_4 16 rfl rfl)
theorem dX4_lawAt_112 : decode cX4_lawAt 112 = .ok (.lastore, 1) := dk_80 (dk_at dksX4_lawAt_4 17 rfl rfl)
theorem dX4_lawAt_113 : decode cX4_lawAt 113 = .ok (.iinc 3 1, 3) := dk_132 3 1 (dk_at dksX4_lawAt_4 18 rfl rfl)
theorem dX4_lawAt_116 : decode cX4_lawAt 116 = .ok (.goto (-53), 3) := dk_167 255 203 (dk_at dksX4_lawAt_4 21 rfl rfl)
theorem dX4_lawAt_119 : decode cX4_lawAt 119 = .ok (.aload_n 0, 1) := dk_42 (dk_at dksX4_lawAt_5 0 rfl rfl)
theorem dX4_lawAt_120 : decode cX4_lawAt 120 = .ok (.iconst 0, 1) := dk_3 (dk_at dksX4_lawAt_5 1 rfl rfl)
theorem dX4_lawAt_121 : decode cX4_lawAt 121 = .ok (.invokevirtual 441, 3) := dk_182 1 185 (dk_at dksX4_lawAt_5 2 rfl rfl)
theorem dX4_lawAt_124 : decode cX4_lawAt 124 = .ok (.lstore_n 3, 1) := dk_66 (dk_at dksX4_lawAt_5 5 rfl rfl)
theorem dX4_lawAt_125 : decode cX4_lawAt 125 = .ok (.aload_n 0, 1) := dk_42 (dk_at dksX4_lawAt_5 6 rfl rfl)
theorem dX4_lawAt_126 : decode cX4_lawAt 126 = .ok (.getfield 416, 3) := dk_180 1 160 (dk_at dksX4_lawAt_5 7 rfl rfl)
theorem dX4_lawAt_129 : decode cX4_lawAt 129 = .ok (.ifCond .eq 8, 3) := dk_153 0 8 (dk_at dksX4_lawAt_5 10 rfl rfl)
theorem dX4_lawAt_132 : decode cX4_lawAt 132 = .ok (.bipush 50, 2) := dk_16 50 (dk_at dksX4_lawAt_5 13 rfl rfl)
theorem dX4_lawAt_134 : decode cX4_lawAt 134 = .ok (.goto 28, 3) := dk_167 0 28 (dk_at dksX4_lawAt_5 15 rfl rfl)
theorem dX4_lawAt_137 : decode cX4_lawAt 137 = .ok (.lload_n 3, 1) := dk_33 (dk_at dksX4_lawAt_5 18 rfl rfl)
theorem dX4_lawAt_138 : decode cX4_lawAt 138 = .ok (.lconst 0, 1) := dk_9 (dk_at dksX4_lawAt_5 19 rfl rfl)
theorem dX4_lawAt_139 : decode cX4_lawAt 139 = .ok (.lcmp, 1) := dk_148 (dk_at dksX4_lawAt_5 20 rfl rfl)
theorem dX4_lawAt_140 : decode cX4_lawAt 140 = .ok (.ifCond .ge 7, 3) := dk_156 0 7 (dk_at dksX4_lawAt_5 21 rfl rfl)
theorem dX4_lawAt_143 : decode cX4_lawAt 143 = .ok (.iconst 0, 1) := dk_3 (dk_at dksX4_lawAt_6 0 rfl rfl)
theorem dX4_lawAt_144 : decode cX4_lawAt 144 = .ok (.goto 18, 3) := dk_167 0 18 (dk_at dksX4_lawAt_6 1 rfl rfl)
theorem dX4_lawAt_147 : decode cX4_lawAt 147 = .ok (.lload_n 3, 1) := dk_33 (dk_at dksX4_lawAt_6 4 rfl rfl)
theorem dX4_lawAt_148 : decode cX4_lawAt 148 = .ok (.ldc2_w 450, 3) := dk_20 1 194 (dk_at dksX4_lawAt_6 5 rfl rfl)
theorem dX4_lawAt_151 : decode cX4_lawAt 151 = .ok (.lcmp, 1) := dk_148 (dk_at dksX4_lawAt_6 8 rfl rfl)
theorem dX4_lawAt_152 : decode cX4_lawAt 152 = .ok (.ifCond .le 8, 3) := dk_158 0 8 (dk_at dksX4_lawAt_6 9 rfl rfl)
theorem dX4_lawAt_155 : decode cX4_lawAt 155 = .ok (.bipush 100, 2) := dk_16 100 (dk_at dksX4_lawAt_6 12 rfl rfl)
theorem dX4_lawAt_157 : decode cX4_lawAt 157 = .ok (.goto 5, 3) := dk_167 0 5 (dk_at dksX4_lawAt_6 14 rfl rfl)
theorem dX4_lawAt_160 : decode cX4_lawAt 160 = .ok (.lload_n 3, 1) := dk_33 (dk_at dksX4_lawAt_6 17 rfl rfl)
theorem dX4_lawAt_161 : decode cX4_lawAt 161 = .ok (.l2i, 1) := dk_136 (dk_at dksX4_lawAt_6 18 rfl rfl)
theorem dX4_lawAt_162 : decode cX4_lawAt 162 = .ok (.ireturn, 1) := dk_172 (dk_at dksX4_lawAt_6 19 rfl rfl)
abbrev cX4_hasLine : ByteArray := prog_18_method_94_code
def yX4_hasLine : MethodName := ⟨RX4, "hasLine", "(I)Z"⟩
def dkwX4_hasLine_0 : List UInt8 := [42, 180, 0, 78, 27, 46, 42, 180, 0, 75, 27, 46, 164, 0, 7, 4, 167, 0, 4, 3, 172]
abbrev dktX4_hasLine_0 : List UInt8 := dkwX4_hasLine_0 ++ []
theorem dksX4_hasLine_0 : cX4_hasLine.data.toList.drop 0 = dktX4_hasLine_0 := by decide +kernel
theorem dX4_hasLine_0 : decode cX4_hasLine 0 = .ok (.aload_n 0, 1) := dk_42 (dk_at dksX4_hasLine_0 0 rfl rfl)
theorem dX4_hasLine_1 : decode cX4_hasLine 1 = .ok (.getfield 78, 3) := dk_180 0 78 (dk_at dksX4_hasLine_0 1 rfl rfl)
theorem dX4_hasLine_4 : decode cX4_hasLine 4 = .ok (.iload_n 1, 1) := dk_27 (dk_at dksX4_hasLine_0 4 rfl rfl)
theorem dX4_hasLine_5 : decode cX4_hasLine 5 = .ok (.iaload, 1) := dk_46 (dk_at dksX4_hasLine_0 5 rfl rfl)
theorem dX4_hasLine_6 : decode cX4_hasLine 6 = .ok (.aload_n 0, 1) := dk_42 (dk_at dksX4_hasLine_0 6 rfl rfl)
theorem dX4_hasLine_7 : decode cX4_hasLine 7 = .ok (.getfield 75, 3) := dk_180 0 75 (dk_at dksX4_hasLine_0 7 rfl rfl)
theorem dX4_hasLine_10 : decode cX4_hasLine 10 = .ok (.iload_n 1, 1) := dk_27 (dk_at dksX4_hasLine_0 10 rfl rfl)
theorem dX4_hasLine_11 : decode cX4_hasLine 11 = .ok (.iaload, 1) := dk_46 (dk_at dksX4_hasLine_0 11 rfl rfl)
theorem dX4_hasLine_12 : decode cX4_hasLine 12 = .ok (.if_icmp .le 7, 3) := dk_164 0 7 (dk_at dksX4_hasLine_0 12 rfl rfl)
theorem dX4_hasLine_15 : decode cX4_hasLine 15 = .ok (.iconst 1, 1) := dk_4 (dk_at dksX4_hasLine_0 15 rfl rfl)
theorem dX4_hasLine_16 : decode cX4_hasLine 16 = .ok (.goto 4, 3) := dk_167 0 4 (dk_at dksX4_hasLine_0 16 rfl rfl)
theorem dX4_hasLine_19 : decode cX4_hasLine 19 = .ok (.iconst 0, 1) := dk_3 (dk_at dksX4_hasLine_0 19 rfl rfl)
theorem dX4_hasLine_20 : decode cX4_hasLine 20 = .ok (.ireturn, 1) := dk_172 (dk_at dksX4_hasLine_0 20 rfl rfl)
abbrev cX4_noNames : ByteArray := prog_18_method_97_code
def yX4_noNames : MethodName := ⟨RX4, "noNames", "(I)V"⟩
def dkwX4_noNames_1 : List UInt8 := [180, 0, 111, 3, 42, 180, 0, 38, 27, 46, 133, 80, 177]
abbrev dktX4_noNames_1 : List UInt8 := dkwX4_noNames_1 ++ []
def dkwX4_noNames_0 : List UInt8 := [3, 61, 28, 16, 10, 162, 0, 16, 42, 180, 0, 111, 28, 9, 80, 132, 2, 1, 167, 255, 240, 42]
abbrev dktX4_noNames_0 : List UInt8 := dkwX4_noNames_0 ++ dktX4_noNames_1
theorem dksX4_noNames_0 : cX4_noNames.data.toList.drop 0 = dktX4_noNames_0 := by decide +kernel
theorem dksX4_noNames_1 : cX4_noNames.data.toList.drop 22 = dktX4_noNames_1 := dk_seg dksX4_noNames_0 22 rfl rfl
theorem dX4_noNames_0 : decode cX4_noNames 0 = .ok (.iconst 0, 1) := dk_3 (dk_at dksX4_noNames_0 0 rfl rfl)
theorem dX4_noNames_1 : decode cX4_noNames 1 = .ok (.istore_n 2, 1) := dk_61 (dk_at dksX4_noNames_0 1 rfl rfl)
theorem dX4_noNames_2 : decode cX4_noNames 2 = .ok (.iload_n 2, 1) := dk_28 (dk_at dksX4_noNames_0 2 rfl rfl)
theorem dX4_noNames_3 : decode cX4_noNames 3 = .ok (.bipush 10, 2) := dk_16 10 (dk_at dksX4_noNames_0 3 rfl rfl)
theorem dX4_noNames_5 : decode cX4_noNames 5 = .ok (.if_icmp .ge 16, 3) := dk_162 0 16 (dk_at dksX4_noNames_0 5 rfl rfl)
theorem dX4_noNames_8 : decode cX4_noNames 8 = .ok (.aload_n 0, 1) := dk_42 (dk_at dksX4_noNames_0 8 rfl rfl)
theorem dX4_noNames_9 : decode cX4_noNames 9 = .ok (.getfield 111, 3) := dk_180 0 111 (dk_at dksX4_noNames_0 9 rfl rfl)
theorem dX4_noNames_12 : decode cX4_noNames 12 = .ok (.iload_n 2, 1) := dk_28 (dk_at dksX4_noNames_0 12 rfl rfl)
theorem dX4_noNames_13 : decode cX4_noNames 13 = .ok (.lconst 0, 1) := dk_9 (dk_at dksX4_noNames_0 13 rfl rfl)
theorem dX4_noNames_14 : decode cX4_noNames 14 = .ok (.lastore, 1) := dk_80 (dk_at dksX4_noNames_0 14 rfl rfl)
theorem dX4_noNames_15 : decode cX4_noNames 15 = .ok (.iinc 2 1, 3) := dk_132 2 1 (dk_at dksX4_noNames_0 15 rfl rfl)
theorem dX4_noNames_18 : decode cX4_noNames 18 = .ok (.goto (-16), 3) := dk_167 255 240 (dk_at dksX4_noNames_0 18 rfl rfl)
theorem dX4_noNames_21 : decode cX4_noNames 21 = .ok (.aload_n 0, 1) := dk_42 (dk_at dksX4_noNames_0 21 rfl rfl)
theorem dX4_noNames_22 : decode cX4_noNames 22 = .ok (.getfield 111, 3) := dk_180 0 111 (dk_at dksX4_noNames_1 0 rfl rfl)
theorem dX4_noNames_25 : decode cX4_noNames 25 = .ok (.iconst 0, 1) := dk_3 (dk_at dksX4_noNames_1 3 rfl rfl)
theorem dX4_noNames_26 : decode cX4_noNames 26 = .ok (.aload_n 0, 1) := dk_42 (dk_at dksX4_noNames_1 4 rfl rfl)
theorem dX4_noNames_27 : decode cX4_noNames 27 = .ok (.getfield 38, 3) := dk_180 0 38 (dk_at dksX4_noNames_1 5 rfl rfl)
theorem dX4_noNames_30 : decode cX4_noNames 30 = .ok (.iload_n 1, 1) := dk_27 (dk_at dksX4_noNames_1 8 rfl rfl)
theorem dX4_noNames_31 : decode cX4_noNames 31 = .ok (.iaload, 1) := dk_46 (dk_at dksX4_noNames_1 9 rfl rfl)
theorem dX4_noNames_32 : decode cX4_noNames 32 = .ok (.i2l, 1) := dk_133 (dk_at dksX4_noNames_1 10 rfl rfl)
theorem dX4_noNames_33 : decode cX4_noNames 33 = .ok (.lastore, 1) := dk_80 (dk_at dksX4_noNames_1 11 rfl rfl)
theorem dX4_noNames_34 : decode cX4_noNames 34 = .ok (.return_, 1) := dk_177 (dk_at dksX4_noNames_1 12 rfl rfl)
abbrev cX4_offUpTo : ByteArray := prog_18_method_98_code
def yX4_offUpTo : MethodName := ⟨RX4, "offUpTo", "(II)I"⟩
def dkwX4_offUpTo_1 : List UInt8 := [29, 172]
abbrev dktX4_offUpTo_1 : List UInt8 := dkwX4_offUpTo_1 ++ []
def dkwX4_offUpTo_0 : List UInt8 := [42, 27, 28, 182, 1, 81, 42, 180, 0, 41, 27, 46, 100, 4, 96, 62, 29, 156, 0, 7, 3, 167, 0, 4]
abbrev dktX4_offUpTo_0 : List UInt8 := dkwX4_offUpTo_0 ++ dktX4_offUpTo_1
theorem dksX4_offUpTo_0 : cX4_offUpTo.data.toList.drop 0 = dktX4_offUpTo_0 := by decide +kernel
theorem dksX4_offUpTo_1 : cX4_offUpTo.data.toList.drop 24 = dktX4_offUpTo_1 := dk_seg dksX4_offUpTo_0 24 rfl rfl
theorem dX4_offUpTo_0 : decode cX4_offUpTo 0 = .ok (.aload_n 0, 1) := dk_42 (dk_at dksX4_offUpTo_0 0 rfl rfl)
theorem dX4_offUpTo_1 : decode cX4_offUpTo 1 = .ok (.iload_n 1, 1) := dk_27 (dk_at dksX4_offUpTo_0 1 rfl rfl)
theorem dX4_offUpTo_2 : decode cX4_offUpTo 2 = .ok (.iload_n 2, 1) := dk_28 (dk_at dksX4_offUpTo_0 2 rfl rfl)
theorem dX4_offUpTo_3 : decode cX4_offUpTo 3 = .ok (.invokevirtual 337, 3) := dk_182 1 81 (dk_at dksX4_offUpTo_0 3 rfl rfl)
theorem dX4_offUpTo_6 : decode cX4_offUpTo 6 = .ok (.aload_n 0, 1) := dk_42 (dk_at dksX4_offUpTo_0 6 rfl rfl)
theorem dX4_offUpTo_7 : decode cX4_offUpTo 7 = .ok (.getfield 41, 3) := dk_180 0 41 (dk_at dksX4_offUpTo_0 7 rfl rfl)
theorem dX4_offUpTo_10 : decode cX4_offUpTo 10 = .ok (.iload_n 1, 1) := dk_27 (dk_at dksX4_offUpTo_0 10 rfl rfl)
theorem dX4_offUpTo_11 : decode cX4_offUpTo 11 = .ok (.iaload, 1) := dk_46 (dk_at dksX4_offUpTo_0 11 rfl rfl)
theorem dX4_offUpTo_12 : decode cX4_offUpTo 12 = .ok (.isub, 1) := dk_100 (dk_at dksX4_offUpTo_0 12 rfl rfl)
theorem dX4_offUpTo_13 : decode cX4_offUpTo 13 = .ok (.iconst 1, 1) := dk_4 (dk_at dksX4_offUpTo_0 13 rfl rfl)
theorem dX4_offUpTo_14 : decode cX4_offUpTo 14 = .ok (.iadd, 1) := dk_96 (dk_at dksX4_offUpTo_0 14 rfl rfl)
theorem dX4_offUpTo_15 : decode cX4_offUpTo 15 = .ok (.istore_n 3, 1) := dk_62 (dk_at dksX4_offUpTo_0 15 rfl rfl)
theorem dX4_offUpTo_16 : decode cX4_offUpTo 16 = .ok (.iload_n 3, 1) := dk_29 (dk_at dksX4_offUpTo_0 16 rfl rfl)
theorem dX4_offUpTo_17 : decode cX4_offUpTo 17 = .ok (.ifCond .ge 7, 3) := dk_156 0 7 (dk_at dksX4_offUpTo_0 17 rfl rfl)
theorem dX4_offUpTo_20 : decode cX4_offUpTo 20 = .ok (.iconst 0, 1) := dk_3 (dk_at dksX4_offUpTo_0 20 rfl rfl)
theorem dX4_offUpTo_21 : decode cX4_offUpTo 21 = .ok (.goto 4, 3) := dk_167 0 4 (dk_at dksX4_offUpTo_0 21 rfl rfl)
theorem dX4_offUpTo_24 : decode cX4_offUpTo 24 = .ok (.iload_n 3, 1) := dk_29 (dk_at dksX4_offUpTo_1 0 rfl rfl)
theorem dX4_offUpTo_25 : decode cX4_offUpTo 25 = .ok (.ireturn, 1) := dk_172 (dk_at dksX4_offUpTo_1 1 rfl rfl)
abbrev cX4_sumOf : ByteArray := prog_18_method_95_code
def yX4_sumOf : MethodName := ⟨RX4, "sumOf", "(I)J"⟩
def dkwX4_sumOf_2 : List UInt8 := [27, 46, 4, 100, 47, 173]
abbrev dktX4_sumOf_2 : List UInt8 := dkwX4_sumOf_2 ++ []
def dkwX4_sumOf_1 : List UInt8 := [180, 0, 115, 28, 42, 28, 182, 1, 178, 80, 132, 2, 1, 167, 255, 232, 42, 180, 0, 115, 42, 180, 0, 78]
abbrev dktX4_sumOf_1 : List UInt8 := dkwX4_sumOf_1 ++ dktX4_sumOf_2
def dkwX4_sumOf_0 : List UInt8 := [42, 3, 181, 1, 160, 42, 180, 0, 75, 27, 46, 61, 28, 42, 180, 0, 78, 27, 46, 162, 0, 20, 42]
abbrev dktX4_sumOf_0 : List UInt8 := dkwX4_sumOf_0 ++ dktX4_sumOf_1
theorem dksX4_sumOf_0 : cX4_sumOf.data.toList.drop 0 = dktX4_sumOf_0 := by decide +kernel
theorem dksX4_sumOf_1 : cX4_sumOf.data.toList.drop 23 = dktX4_sumOf_1 := dk_seg dksX4_sumOf_0 23 rfl rfl
theorem dksX4_sumOf_2 : cX4_sumOf.data.toList.drop 47 = dktX4_sumOf_2 := dk_seg dksX4_sumOf_1 24 rfl rfl
theorem dX4_sumOf_0 : decode cX4_sumOf 0 = .ok (.aload_n 0, 1) := dk_42 (dk_at dksX4_sumOf_0 0 rfl rfl)
theorem dX4_sumOf_1 : decode cX4_sumOf 1 = .ok (.iconst 0, 1) := dk_3 (dk_at dksX4_sumOf_0 1 rfl rfl)
theorem dX4_sumOf_2 : decode cX4_sumOf 2 = .ok (.putfield 416, 3) := dk_181 1 160 (dk_at dksX4_sumOf_0 2 rfl rfl)
theorem dX4_sumOf_5 : decode cX4_sumOf 5 = .ok (.aload_n 0, 1) := dk_42 (dk_at dksX4_sumOf_0 5 rfl rfl)
theorem dX4_sumOf_6 : decode cX4_sumOf 6 = .ok (.getfield 75, 3) := dk_180 0 75 (dk_at dksX4_sumOf_0 6 rfl rfl)
theorem dX4_sumOf_9 : decode cX4_sumOf 9 = .ok (.iload_n 1, 1) := dk_27 (dk_at dksX4_sumOf_0 9 rfl rfl)
theorem dX4_sumOf_10 : decode cX4_sumOf 10 = .ok (.iaload, 1) := dk_46 (dk_at dksX4_sumOf_0 10 rfl rfl)
theorem dX4_sumOf_11 : decode cX4_sumOf 11 = .ok (.istore_n 2, 1) := dk_61 (dk_at dksX4_sumOf_0 11 rfl rfl)
theorem dX4_sumOf_12 : decode cX4_sumOf 12 = .ok (.iload_n 2, 1) := dk_28 (dk_at dksX4_sumOf_0 12 rfl rfl)
theorem dX4_sumOf_13 : decode cX4_sumOf 13 = .ok (.aload_n 0, 1) := dk_42 (dk_at dksX4_sumOf_0 13 rfl rfl)
theorem dX4_sumOf_14 : decode cX4_sumOf 14 = .ok (.getfield 78, 3) := dk_180 0 78 (dk_at dksX4_sumOf_0 14 rfl rfl)
theorem dX4_sumOf_17 : decode cX4_sumOf 17 = .ok (.iload_n 1, 1) := dk_27 (dk_at dksX4_sumOf_0 17 rfl rfl)
theorem dX4_sumOf_18 : decode cX4_sumOf 18 = .ok (.iaload, 1) := dk_46 (dk_at dksX4_sumOf_0 18 rfl rfl)
theorem dX4_sumOf_19 : decode cX4_sumOf 19 = .ok (.if_icmp .ge 20, 3) := dk_162 0 20 (dk_at dksX4_sumOf_0 19 rfl rfl)
theorem dX4_sumOf_22 : decode cX4_sumOf 22 = .ok (.aload_n 0, 1) := dk_42 (dk_at dksX4_sumOf_0 22 rfl rfl)
theorem dX4_sumOf_23 : decode cX4_sumOf 23 = .ok (.getfield 115, 3) := dk_180 0 115 (dk_at dksX4_sumOf_1 0 rfl rfl)
theorem dX4_sumOf_26 : decode cX4_sumOf 26 = .ok (.iload_n 2, 1) := dk_28 (dk_at dksX4_sumOf_1 3 rfl rfl)
theorem dX4_sumOf_27 : decode cX4_sumOf 27 = .ok (.aload_n 0, 1) := dk_42 (dk_at dksX4_sumOf_1 4 rfl rfl)
theorem dX4_sumOf_28 : decode cX4_sumOf 28 = .ok (.iload_n 2, 1) := dk_28 (dk_at dksX4_sumOf_1 5 rfl rfl)
theorem dX4_sumOf_29 : decode cX4_sumOf 29 = .ok (.invokevirtual 434, 3) := dk_182 1 178 (dk_at dksX4_sumOf_1 6 rfl rfl)
theorem dX4_sumOf_32 : decode cX4_sumOf 32 = .ok (.lastore, 1) := dk_80 (dk_at dksX4_sumOf_1 9 rfl rfl)
theorem dX4_sumOf_33 : decode cX4_sumOf 33 = .ok (.iinc 2 1, 3) := dk_132 2 1 (dk_at dksX4_sumOf_1 10 rfl rfl)
theorem dX4_sumOf_36 : decode cX4_sumOf 36 = .ok (.goto (-24), 3) := dk_167 255 232 (dk_at dksX4_sumOf_1 13 rfl rfl)
theorem dX4_sumOf_39 : decode cX4_sumOf 39 = .ok (.aload_n 0, 1) := dk_42 (dk_at dksX4_sumOf_1 16 rfl rfl)
theorem dX4_sumOf_40 : decode cX4_sumOf 40 = .ok (.getfield 115, 3) := dk_180 0 115 (dk_at dksX4_sumOf_1 17 rfl rfl)
theorem dX4_sumOf_43 : decode cX4_sumOf 43 = .ok (.aload_n 0, 1) := dk_42 (dk_at dksX4_sumOf_1 20 rfl rfl)
theorem dX4_sumOf_44 : decode cX4_sumOf 44 = .ok (.getfield 78, 3) := dk_180 0 78 (dk_at dksX4_sumOf_1 21 rfl rfl)
theorem dX4_sumOf_47 : decode cX4_sumOf 47 = .ok (.iload_n 1, 1) := dk_27 (dk_at dksX4_sumOf_2 0 rfl rfl)
theorem dX4_sumOf_48 : decode cX4_sumOf 48 = .ok (.iaload, 1) := dk_46 (dk_at dksX4_sumOf_2 1 rfl rfl)
theorem dX4_sumOf_49 : decode cX4_sumOf 49 = .ok (.iconst 1, 1) := dk_4 (dk_at dksX4_sumOf_2 2 rfl rfl)
theorem dX4_sumOf_50 : decode cX4_sumOf 50 = .ok (.isub, 1) := dk_100 (dk_at dksX4_sumOf_2 3 rfl rfl)
theorem dX4_sumOf_51 : decode cX4_sumOf 51 = .ok (.laload, 1) := dk_47 (dk_at dksX4_sumOf_2 4 rfl rfl)
theorem dX4_sumOf_52 : decode cX4_sumOf 52 = .ok (.lreturn, 1) := dk_173 (dk_at dksX4_sumOf_2 5 rfl rfl)
abbrev cX4_worthOf : ByteArray := prog_18_method_93_code
def yX4_worthOf : MethodName := ⟨RX4, "worthOf", "(I)J"⟩
def dkwX4_worthOf_10 : List UInt8 := [153, 0, 7, 10, 167, 0, 4, 9, 173]
abbrev dktX4_worthOf_10 : List UInt8 := dkwX4_worthOf_10 ++ []
def dkwX4_worthOf_9 : List UInt8 := [153, 0, 7, 9, 167, 0, 7, 32, 22, 4, 109, 173, 42, 180, 0, 81, 27, 46, 32, 22, 4, 184, 1, 174]
abbrev dktX4_worthOf_9 : List UInt8 := dkwX4_worthOf_9 ++ dktX4_worthOf_10
def dkwX4_worthOf_8 : List UInt8 := [154, 0, 10, 22, 4, 9, 148, 154, 0, 7, 4, 167, 0, 4, 3, 181, 1, 160, 42, 180, 1, 160]
abbrev dktX4_worthOf_8 : List UInt8 := dkwX4_worthOf_8 ++ dktX4_worthOf_9
def dkwX4_worthOf_7 : List UInt8 := [173, 42, 32, 22, 4, 101, 182, 1, 167, 173, 42, 32, 22, 4, 182, 1, 171, 173, 42, 42, 180, 1, 160]
abbrev dktX4_worthOf_7 : List UInt8 := dkwX4_worthOf_7 ++ dktX4_worthOf_8
def dkwX4_worthOf_6 : List UInt8 := [154, 0, 10, 22, 4, 9, 148, 153, 0, 7, 10, 167, 0, 4, 9, 173, 42, 32, 22, 4, 97, 182, 1, 167]
abbrev dktX4_worthOf_6 : List UInt8 := dkwX4_worthOf_6 ++ dktX4_worthOf_7
def dkwX4_worthOf_5 : List UInt8 := [32, 9, 148, 153, 0, 14, 22, 4, 9, 148, 153, 0, 7, 10, 167, 0, 4, 9, 173, 32, 9, 148]
abbrev dktX4_worthOf_5 : List UInt8 := dkwX4_worthOf_5 ++ dktX4_worthOf_6
def dkwX4_worthOf_4 : List UInt8 := [170, 0, 0, 0, 0, 0, 0, 167, 0, 0, 0, 3, 0, 0, 0, 14, 0, 0, 0, 64, 0, 0, 0, 83, 0, 0, 0, 167, 0, 0, 0, 167, 0, 0, 0, 167, 0, 0, 0, 167, 0, 0, 0, 167, 0, 0, 0, 167, 0, 0, 0, 102, 0, 0, 0, 111, 0, 0, 0, 120, 0, 0, 0, 128]
abbrev dktX4_worthOf_4 : List UInt8 := dkwX4_worthOf_4 ++ dktX4_worthOf_5
def dkwX4_worthOf_3 : List UInt8 := [173, 42, 180, 0, 115, 42, 180, 0, 87, 27, 46, 47, 55, 4, 42, 180, 0, 81, 27, 46]
abbrev dktX4_worthOf_3 : List UInt8 := dkwX4_worthOf_3 ++ dktX4_worthOf_4
def dkwX4_worthOf_2 : List UInt8 := [46, 47, 65, 42, 180, 0, 81, 27, 46, 5, 160, 0, 15, 32, 9, 148, 154, 0, 7, 10, 167, 0, 4, 9]
abbrev dktX4_worthOf_2 : List UInt8 := dkwX4_worthOf_2 ++ dktX4_worthOf_3
def dkwX4_worthOf_1 : List UInt8 := [160, 0, 15, 42, 180, 0, 111, 42, 180, 0, 84, 27, 46, 47, 173, 42, 180, 0, 115, 42, 180, 0, 84, 27]
abbrev dktX4_worthOf_1 : List UInt8 := dkwX4_worthOf_1 ++ dktX4_worthOf_2
def dkwX4_worthOf_0 : List UInt8 := [42, 180, 0, 81, 27, 46, 154, 0, 11, 42, 180, 0, 84, 27, 46, 133, 173, 42, 180, 0, 81, 27, 46, 4]
abbrev dktX4_worthOf_0 : List UInt8 := dkwX4_worthOf_0 ++ dktX4_worthOf_1
theorem dksX4_worthOf_0 : cX4_worthOf.data.toList.drop 0 = dktX4_worthOf_0 := by decide +kernel
theorem dksX4_worthOf_1 : cX4_worthOf.data.toList.drop 24 = dktX4_worthOf_1 := dk_seg dksX4_worthOf_0 24 rfl rfl
theorem dksX4_worthOf_2 : cX4_worthOf.data.toList.drop 48 = dktX4_worthOf_2 := dk_seg dksX4_worthOf_1 24 rfl rfl
theorem dksX4_worthOf_3 : cX4_worthOf.data.toList.drop 72 = dktX4_worthOf_3 := dk_seg dksX4_worthOf_2 24 rfl rfl
theorem dksX4_worthOf_4 : cX4_worthOf.data.toList.drop 92 = dktX4_worthOf_4 := dk_seg dksX4_worthOf_3 20 rfl rfl
theorem dksX4_worthOf_5 : cX4_worthOf.data.toList.drop 156 = dktX4_worthOf_5 := dk_seg dksX4_worthOf_4 64 rfl rfl
theorem dksX4_worthOf_6 : cX4_worthOf.data.toList.drop 178 = dktX4_worthOf_6 := dk_seg dksX4_worthOf_5 22 rfl rfl
theorem dksX4_worthOf_7 : cX4_worthOf.data.toList.drop 202 = dktX4_worthOf_7 := dk_seg dksX4_worthOf_6 24 rfl rfl
theorem dksX4_worthOf_8 : cX4_worthOf.data.toList.drop 225 = dktX4_worthOf_8 := dk_seg dksX4_worthOf_7 23 rfl rfl
theorem dksX4_worthOf_9 : cX4_worthOf.data.toList.drop 247 = dktX4_worthOf_9 := dk_seg dksX4_worthOf_8 22 rfl rfl
theorem dksX4_worthOf_10 : cX4_worthOf.data.toList.drop 271 = dktX4_worthOf_10 := dk_seg dksX4_worthOf_9 24 rfl rfl
theorem dX4_worthOf_0 : decode cX4_worthOf 0 = .ok (.aload_n 0, 1) := dk_42 (dk_at dksX4_worthOf_0 0 rfl rfl)
theorem dX4_worthOf_1 : decode cX4_worthOf 1 = .ok (.getfield 81, 3) := dk_180 0 81 (dk_at dksX4_worthOf_0 1 rfl rfl)
theorem dX4_worthOf_4 : decode cX4_worthOf 4 = .ok (.iload_n 1, 1) := dk_27 (dk_at dksX4_worthOf_0 4 rfl rfl)
theorem dX4_worthOf_5 : decode cX4_worthOf 5 = .ok (.iaload, 1) := dk_46 (dk_at dksX4_worthOf_0 5 rfl rfl)
theorem dX4_worthOf_6 : decode cX4_worthOf 6 = .ok (.ifCond .ne 11, 3) := dk_154 0 11 (dk_at dksX4_worthOf_0 6 rfl rfl)
theorem dX4_worthOf_9 : decode cX4_worthOf 9 = .ok (.aload_n 0, 1) := dk_42 (dk_at dksX4_worthOf_0 9 rfl rfl)
theorem dX4_worthOf_10 : decode cX4_worthOf 10 = .ok (.getfield 84, 3) := dk_180 0 84 (dk_at dksX4_worthOf_0 10 rfl rfl)
theorem dX4_worthOf_13 : decode cX4_worthOf 13 = .ok (.iload_n 1, 1) := dk_27 (dk_at dksX4_worthOf_0 13 rfl rfl)
theorem dX4_worthOf_14 : decode cX4_worthOf 14 = .ok (.iaload, 1) := dk_46 (dk_at dksX4_worthOf_0 14 rfl rfl)
theorem dX4_worthOf_15 : decode cX4_worthOf 15 = .ok (.i2l, 1) := dk_133 (dk_at dksX4_worthOf_0 15 rfl rfl)
theorem dX4_worthOf_16 : decode cX4_worthOf 16 = .ok (.lreturn, 1) := dk_173 (dk_at dksX4_worthOf_0 16 rfl rfl)
theorem dX4_worthOf_17 : decode cX4_worthOf 17 = .ok (.aload_n 0, 1) := dk_42 (dk_at dksX4_worthOf_0 17 rfl rfl)
theorem dX4_worthOf_18 : decode cX4_worthOf 18 = .ok (.getfield 81, 3) := dk_180 0 81 (dk_at dksX4_worthOf_0 18 rfl rfl)
theorem dX4_worthOf_21 : decode cX4_worthOf 21 = .ok (.iload_n 1, 1) := dk_27 (dk_at dksX4_worthOf_0 21 rfl rfl)
theorem dX4_worthOf_22 : decode cX4_worthOf 22 = .ok (.iaload, 1) := dk_46 (dk_at dksX4_worthOf_0 22 rfl rfl)
theorem dX4_worthOf_23 : decode cX4_worthOf 23 = .ok (.iconst 1, 1) := dk_4 (dk_at dksX4_worthOf_0 23 rfl rfl)
theorem dX4_worthOf_24 : decode cX4_worthOf 24 = .ok (.if_icmp .ne 15, 3) := dk_160 0 15 (dk_at dksX4_worthOf_1 0 rfl rfl)
theorem dX4_worthOf_27 : decode cX4_worthOf 27 = .ok (.aload_n 0, 1) := dk_42 (dk_at dksX4_worthOf_1 3 rfl rfl)
theorem dX4_worthOf_28 : decode cX4_worthOf 28 = .ok (.getfield 111, 3) := dk_180 0 111 (dk_at dksX4_worthOf_1 4 rfl rfl)
theorem dX4_worthOf_31 : decode cX4_worthOf 31 = .ok (.aload_n 0, 1) := dk_42 (dk_at dksX4_worthOf_1 7 rfl rfl)
theorem dX4_worthOf_32 : decode cX4_worthOf 32 = .ok (.getfield 84, 3) := dk_180 0 84 (dk_at dksX4_worthOf_1 8 rfl rfl)
theorem dX4_worthOf_35 : decode cX4_worthOf 35 = .ok (.iload_n 1, 1) := dk_27 (dk_at dksX4_worthOf_1 11 rfl rfl)
theorem dX4_worthOf_36 : decode cX4_worthOf 36 = .ok (.iaload, 1) := dk_46 (dk_at dksX4_worthOf_1 12 rfl rfl)
theorem dX4_worthOf_37 : decode cX4_worthOf 37 = .ok (.laload, 1) := dk_47 (dk_at dksX4_worthOf_1 13 rfl rfl)
theorem dX4_worthOf_38 : decode cX4_worthOf 38 = .ok (.lreturn, 1) := dk_173 (dk_at dksX4_worthOf_1 14 rfl rfl)
theorem dX4_worthOf_39 : decode cX4_worthOf 39 = .ok (.aload_n 0, 1) := dk_42 (dk_at dksX4_worthOf_1 15 rfl rfl)
theorem dX4_worthOf_40 : decode cX4_worthOf 40 = .ok (.getfield 115, 3) := dk_180 0 115 (dk_at dksX4_worthOf_1 16 rfl rfl)
theorem dX4_worthOf_43 : decode cX4_worthOf 43 = .ok (.aload_n 0, 1) := dk_42 (dk_at dksX4_worthOf_1 19 rfl rfl)
theorem dX4_worthOf_44 : decode cX4_worthOf 44 = .ok (.getfield 84, 3) := dk_180 0 84 (dk_at dksX4_worthOf_1 20 rfl rfl)
theorem dX4_worthOf_47 : decode cX4_worthOf 47 = .ok (.iload_n 1, 1) := dk_27 (dk_at dksX4_worthOf_1 23 rfl rfl)
theorem dX4_worthOf_48 : decode cX4_worthOf 48 = .ok (.iaload, 1) := dk_46 (dk_at dksX4_worthOf_2 0 rfl rfl)
theorem dX4_worthOf_49 : decode cX4_worthOf 49 = .ok (.laload, 1) := dk_47 (dk_at dksX4_worthOf_2 1 rfl rfl)
theorem dX4_worthOf_50 : decode cX4_worthOf 50 = .ok (.lstore_n 2, 1) := dk_65 (dk_at dksX4_worthOf_2 2 rfl rfl)
theorem dX4_worthOf_51 : decode cX4_worthOf 51 = .ok (.aload_n 0, 1) := dk_42 (dk_at dksX4_worthOf_2 3 rfl rfl)
theorem dX4_worthOf_52 : decode cX4_worthOf 52 = .ok (.getfield 81, 3) := dk_180 0 81 (dk_at dksX4_worthOf_2 4 rfl rfl)
theorem dX4_worthOf_55 : decode cX4_worthOf 55 = .ok (.iload_n 1, 1) := dk_27 (dk_at dksX4_worthOf_2 7 rfl rfl)
theorem dX4_worthOf_56 : decode cX4_worthOf 56 = .ok (.iaload, 1) := dk_46 (dk_at dksX4_worthOf_2 8 rfl rfl)
theorem dX4_worthOf_57 : decode cX4_worthOf 57 = .ok (.iconst 2, 1) := dk_5 (dk_at dksX4_worthOf_2 9 rfl rfl)
theorem dX4_worthOf_58 : decode cX4_worthOf 58 = .ok (.if_icmp .ne 15, 3) := dk_160 0 15 (dk_at dksX4_worthOf_2 10 rfl rfl)
theorem dX4_worthOf_61 : decode cX4_worthOf 61 = .ok (.lload_n 2, 1) := dk_32 (dk_at dksX4_worthOf_2 13 rfl rfl)
theorem dX4_worthOf_62 : decode cX4_worthOf 62 = .ok (.lconst 0, 1) := dk_9 (dk_at dksX4_worthOf_2 14 rfl rfl)
theorem dX4_worthOf_63 : decode cX4_worthOf 63 = .ok (.lcmp, 1) := dk_148 (dk_at dksX4_worthOf_2 15 rfl rfl)
theorem dX4_worthOf_64 : decode cX4_worthOf 64 = .ok (.ifCond .ne 7, 3) := dk_154 0 7 (dk_at dksX4_worthOf_2 16 rfl rfl)
theorem dX4_worthOf_67 : decode cX4_worthOf 67 = .ok (.lconst 1, 1) := dk_10 (dk_at dksX4_worthOf_2 19 rfl rfl)
theorem dX4_worthOf_68 : decode cX4_worthOf 68 = .ok (.goto 4, 3) := dk_167 0 4 (dk_at dksX4_worthOf_2 20 rfl rfl)
theorem dX4_worthOf_71 : decode cX4_worthOf 71 = .ok (.lconst 0, 1) := dk_9 (dk_at dksX4_worthOf_2 23 rfl rfl)
theorem dX4_worthOf_72 : decode cX4_worthOf 72 = .ok (.lreturn, 1) := dk_173 (dk_at dksX4_worthOf_3 0 rfl rfl)
theorem dX4_worthOf_73 : decode cX4_worthOf 73 = .ok (.aload_n 0, 1) := dk_42 (dk_at dksX4_worthOf_3 1 rfl rfl)
theorem dX4_worthOf_74 : decode cX4_worthOf 74 = .ok (.getfield 115, 3) := dk_180 0 115 (dk_at dksX4_worthOf_3 2 rfl rfl)
theorem dX4_worthOf_77 : decode cX4_worthOf 77 = .ok (.aload_n 0, 1) := dk_42 (dk_at dksX4_worthOf_3 5 rfl rfl)
theorem dX4_worthOf_78 : decode cX4_worthOf 78 = .ok (.getfield 87, 3) := dk_180 0 87 (dk_at dksX4_worthOf_3 6 rfl rfl)
theorem dX4_worthOf_81 : decode cX4_worthOf 81 = .ok (.iload_n 1, 1) := dk_27 (dk_at dksX4_worthOf_3 9 rfl rfl)
theorem dX4_worthOf_82 : decode cX4_worthOf 82 = .ok (.iaload, 1) := dk_46 (dk_at dksX4_worthOf_3 10 rfl rfl)
theorem dX4_worthOf_83 : decode cX4_worthOf 83 = .ok (.laload, 1) := dk_47 (dk_at dksX4_worthOf_3 11 rfl rfl)
theorem dX4_worthOf_84 : decode cX4_worthOf 84 = .ok (.lstore 4, 2) := dk_55 4 (dk_at dksX4_worthOf_3 12 rfl rfl)
theorem dX4_worthOf_86 : decode cX4_worthOf 86 = .ok (.aload_n 0, 1) := dk_42 (dk_at dksX4_worthOf_3 14 rfl rfl)
theorem dX4_worthOf_87 : decode cX4_worthOf 87 = .ok (.getfield 81, 3) := dk_180 0 81 (dk_at dksX4_worthOf_3 15 rfl rfl)
theorem dX4_worthOf_90 : decode cX4_worthOf 90 = .ok (.iload_n 1, 1) := dk_27 (dk_at dksX4_worthOf_3 18 rfl rfl)
theorem dX4_worthOf_91 : decode cX4_worthOf 91 = .ok (.iaload, 1) := dk_46 (dk_at dksX4_worthOf_3 19 rfl rfl)
theorem dX4_worthOf_92 : decode cX4_worthOf 92 = .ok (.tableswitch 167 3 14 #[64, 83, 167, 167, 167, 167, 167, 167, 102, 111, 120, 128], 64) := by decide +kernel
theorem dX4_worthOf_156 : decode cX4_worthOf 156 = .ok (.lload_n 2, 1) := dk_32 (dk_at dksX4_worthOf_5 0 rfl rfl)
theorem dX4_worthOf_157 : decode cX4_worthOf 157 = .ok (.lconst 0, 1) := dk_9 (dk_at dksX4_worthOf_5 1 rfl rfl)
theorem dX4_worthOf_158 : decode cX4_worthOf 158 = .ok (.lcmp, 1) := dk_148 (dk_at dksX4_worthOf_5 2 rfl rfl)
theorem dX4_worthOf_159 : decode cX4_worthOf 159 = .ok (.ifCond .eq 14, 3) := dk_153 0 14 (dk_at dksX4_worthOf_5 3 rfl rfl)
theorem dX4_worthOf_162 : decode cX4_worthOf 162 = .ok (.lload 4, 2) := dk_22 4 (dk_at dksX4_worthOf_5 6 rfl rfl)
theorem dX4_worthOf_164 : decode cX4_worthOf 164 = .ok (.lconst 0, 1) := dk_9 (dk_at dksX4_worthOf_5 8 rfl rfl)
theorem dX4_worthOf_165 : decode cX4_worthOf 165 = .ok (.lcmp, 1) := dk_148 (dk_at dksX4_worthOf_5 9 rfl rfl)
theorem dX4_worthOf_166 : decode cX4_worthOf 166 = .ok (.ifCond .eq 7, 3) := dk_153 0 7 (dk_at dksX4_worthOf_5 10 rfl rfl)
theorem dX4_worthOf_169 : decode cX4_worthOf 169 = .ok (.lconst 1, 1) := dk_10 (dk_at dksX4_worthOf_5 13 rfl rfl)
theorem dX4_worthOf_170 : decode cX4_worthOf 170 = .ok (.goto 4, 3) := dk_167 0 4 (dk_at dksX4_worthOf_5 14 rfl rfl)
theorem dX4_worthOf_173 : decode cX4_worthOf 173 = .ok (.lconst 0, 1) := dk_9 (dk_at dksX4_worthOf_5 17 rfl rfl)
theorem dX4_worthOf_174 : decode cX4_worthOf 174 = .ok (.lreturn, 1) := dk_173 (dk_at dksX4_worthOf_5 18 rfl rfl)
theorem dX4_worthOf_175 : decode cX4_worthOf 175 = .ok (.lload_n 2, 1) := dk_32 (dk_at dksX4_worthOf_5 19 rfl rfl)
theorem dX4_worthOf_176 : decode cX4_worthOf 176 = .ok (.lconst 0, 1) := dk_9 (dk_at dksX4_worthOf_5 20 rfl rfl)
theorem dX4_worthOf_177 : decode cX4_worthOf 177 = .ok (.lcmp, 1) := dk_148 (dk_at dksX4_worthOf_5 21 rfl rfl)
theorem dX4_worthOf_178 : decode cX4_worthOf 178 = .ok (.ifCond .ne 10, 3) := dk_154 0 10 (dk_at dksX4_worthOf_6 0 rfl rfl)
theorem dX4_worthOf_181 : decode cX4_worthOf 181 = .ok (.lload 4, 2) := dk_22 4 (dk_at dksX4_worthOf_6 3 rfl rfl)
theorem dX4_worthOf_183 : decode cX4_worthOf 183 = .ok (.lconst 0, 1) := dk_9 (dk_at dksX4_worthOf_6 5 rfl rfl)
theorem dX4_worthOf_184 : decode cX4_worthOf 184 = .ok (.lcmp, 1) := dk_148 (dk_at dksX4_worthOf_6 6 rfl rfl)
theorem dX4_worthOf_185 : decode cX4_worthOf 185 = .ok (.ifCond .eq 7, 3) := dk_153 0 7 (dk_at dksX4_worthOf_6 7 rfl rfl)
theorem dX4_worthOf_188 : decode cX4_worthOf 188 = .ok (.lconst 1, 1) := dk_10 (dk_at dksX4_worthOf_6 10 rfl rfl)
theorem dX4_worthOf_189 : decode cX4_worthOf 189 = .ok (.goto 4, 3) := dk_167 0 4 (dk_at dksX4_worthOf_6 11 rfl rfl)
theorem dX4_worthOf_192 : decode cX4_worthOf 192 = .ok (.lconst 0, 1) := dk_9 (dk_at dksX4_worthOf_6 14 rfl rfl)
theorem dX4_worthOf_193 : decode cX4_worthOf 193 = .ok (.lreturn, 1) := dk_173 (dk_at dksX4_worthOf_6 15 rfl rfl)
theorem dX4_worthOf_194 : decode cX4_worthOf 194 = .ok (.aload_n 0, 1) := dk_42 (dk_at dksX4_worthOf_6 16 rfl rfl)
theorem dX4_worthOf_195 : decode cX4_worthOf 195 = .ok (.lload_n 2, 1) := dk_32 (dk_at dksX4_worthOf_6 17 rfl rfl)
theorem dX4_worthOf_196 : decode cX4_worthOf 196 = .ok (.lload 4, 2) := dk_22 4 (dk_at dksX4_worthOf_6 18 rfl rfl)
theorem dX4_worthOf_198 : decode cX4_worthOf 198 = .ok (.ladd, 1) := dk_97 (dk_at dksX4_worthOf_6 20 rfl rfl)
theorem dX4_worthOf_199 : decode cX4_worthOf 199 = .ok (.invokevirtual 423, 3) := dk_182 1 167 (dk_at dksX4_worthOf_6 21 rfl rfl)
theorem dX4_worthOf_202 : decode cX4_worthOf 202 = .ok (.lreturn, 1) := dk_173 (dk_at dksX4_worthOf_7 0 rfl rfl)
theorem dX4_worthOf_203 : decode cX4_worthOf 203 = .ok (.aload_n 0, 1) := dk_42 (dk_at dksX4_worthOf_7 1 rfl rfl)
theorem dX4_worthOf_204 : decode cX4_worthOf 204 = .ok (.lload_n 2, 1) := dk_32 (dk_at dksX4_worthOf_7 2 rfl rfl)
theorem dX4_worthOf_205 : decode cX4_worthOf 205 = .ok (.lload 4, 2) := dk_22 4 (dk_at dksX4_worthOf_7 3 rfl rfl)
theorem dX4_worthOf_207 : decode cX4_worthOf 207 = .ok (.lsub, 1) := dk_101 (dk_at dksX4_worthOf_7 5 rfl rfl)
theorem dX4_worthOf_208 : decode cX4_worthOf 208 = .ok (.invokevirtual 423, 3) := dk_182 1 167 (dk_at dksX4_worthOf_7 6 rfl rfl)
theorem dX4_worthOf_211 : decode cX4_worthOf 211 = .ok (.lreturn, 1) := dk_173 (dk_at dksX4_worthOf_7 9 rfl rfl)
theorem dX4_worthOf_212 : decode cX4_worthOf 212 = .ok (.aload_n 0, 1) := dk_42 (dk_at dksX4_worthOf_7 10 rfl rfl)
theorem dX4_worthOf_213 : decode cX4_worthOf 213 = .ok (.lload_n 2, 1) := dk_32 (dk_at dksX4_worthOf_7 11 rfl rfl)
theorem dX4_worthOf_214 : decode cX4_worthOf 214 = .ok (.lload 4, 2) := dk_22 4 (dk_at dksX4_worthOf_7 12 rfl rfl)
theorem dX4_worthOf_216 : decode cX4_worthOf 216 = .ok (.invokevirtual 427, 3) := dk_182 1 171 (dk_at dksX4_worthOf_7 14 rfl rfl)
theorem dX4_worthOf_219 : decode cX4_worthOf 219 = .ok (.lreturn, 1) := dk_173 (dk_at dksX4_worthOf_7 17 rfl rfl)
theorem dX4_worthOf_220 : decode cX4_worthOf 220 = .ok (.aload_n 0, 1) := dk_42 (dk_at dksX4_worthOf_7 18 rfl rfl)
theorem dX4_worthOf_221 : decode cX4_worthOf 221 = .ok (.aload_n 0, 1) := dk_42 (dk_at dksX4_worthOf_7 19 rfl rfl)
theorem dX4_worthOf_222 : decode cX4_worthOf 222 = .ok (.getfield 416, 3) := dk_180 1 160 (dk_at dksX4_worthOf_7 20 rfl rfl)
theorem dX4_worthOf_225 : decode cX4_worthOf 225 = .ok (.ifCond .ne 10, 3) := dk_154 0 10 (dk_at dksX4_worthOf_8 0 rfl rfl)
theorem dX4_worthOf_228 : decode cX4_worthOf 228 = .ok (.lload 4, 2) := dk_22 4 (dk_at dksX4_worthOf_8 3 rfl rfl)
theorem dX4_worthOf_230 : decode cX4_worthOf 230 = .ok (.lconst 0, 1) := dk_9 (dk_at dksX4_worthOf_8 5 rfl rfl)
theorem dX4_worthOf_231 : decode cX4_worthOf 231 = .ok (.lcmp, 1) := dk_148 (dk_at dksX4_worthOf_8 6 rfl rfl)
theorem dX4_worthOf_232 : decode cX4_worthOf 232 = .ok (.ifCond .ne 7, 3) := dk_154 0 7 (dk_at dksX4_worthOf_8 7 rfl rfl)
theorem dX4_worthOf_235 : decode cX4_worthOf 235 = .ok (.iconst 1, 1) := dk_4 (dk_at dksX4_worthOf_8 10 rfl rfl)
theorem dX4_worthOf_236 : decode cX4_worthOf 236 = .ok (.goto 4, 3) := dk_167 0 4 (dk_at dksX4_worthOf_8 11 rfl rfl)
theorem dX4_worthOf_239 : decode cX4_worthOf 239 = .ok (.iconst 0, 1) := dk_3 (dk_at dksX4_worthOf_8 14 rfl rfl)
theorem dX4_worthOf_240 : decode cX4_worthOf 240 = .ok (.putfield 416, 3) := dk_181 1 160 (dk_at dksX4_worthOf_8 15 rfl rfl)
theorem dX4_worthOf_243 : decode cX4_worthOf 243 = .ok (.aload_n 0, 1) := dk_42 (dk_at dksX4_worthOf_8 18 rfl rfl)
theorem dX4_worthOf_244 : decode cX4_worthOf 244 = .ok (.getfield 416, 3) := dk_180 1 160 (dk_at dksX4_worthOf_8 19 rfl rfl)
theorem dX4_worthOf_247 : decode cX4_worthOf 247 = .ok (.ifCond .eq 7, 3) := dk_153 0 7 (dk_at dksX4_worthOf_9 0 rfl rfl)
theorem dX4_worthOf_250 : decode cX4_worthOf 250 = .ok (.lconst 0, 1) := dk_9 (dk_at dksX4_worthOf_9 3 rfl rfl)
theorem dX4_worthOf_251 : decode cX4_worthOf 251 = .ok (.goto 7, 3) := dk_167 0 7 (dk_at dksX4_worthOf_9 4 rfl rfl)
theorem dX4_worthOf_254 : decode cX4_worthOf 254 = .ok (.lload_n 2, 1) := dk_32 (dk_at dksX4_worthOf_9 7 rfl rfl)
theorem dX4_worthOf_255 : decode cX4_worthOf 255 = .ok (.lload 4, 2) := dk_22 4 (dk_at dksX4_worthOf_9 8 rfl rfl)
theorem dX4_worthOf_257 : decode cX4_worthOf 257 = .ok (.ldiv, 1) := dk_109 (dk_at dksX4_worthOf_9 10 rfl rfl)
theorem dX4_worthOf_258 : decode cX4_worthOf 258 = .ok (.lreturn, 1) := dk_173 (dk_at dksX4_worthOf_9 11 rfl rfl)
theorem dX4_worthOf_259 : decode cX4_worthOf 259 = .ok (.aload_n 0, 1) := dk_42 (dk_at dksX4_worthOf_9 12 rfl rfl)
theorem dX4_worthOf_260 : decode cX4_worthOf 260 = .ok (.getfield 81, 3) := dk_180 0 81 (dk_at dksX4_worthOf_9 13 rfl rfl)
theorem dX4_worthOf_263 : decode cX4_worthOf 263 = .ok (.iload_n 1, 1) := dk_27 (dk_at dksX4_worthOf_9 16 rfl rfl)
theorem dX4_worthOf_264 : decode cX4_worthOf 264 = .ok (.iaload, 1) := dk_46 (dk_at dksX4_worthOf_9 17 rfl rfl)
theorem dX4_worthOf_265 : decode cX4_worthOf 265 = .ok (.lload_n 2, 1) := dk_32 (dk_at dksX4_worthOf_9 18 rfl rfl)
theorem dX4_worthOf_266 : decode cX4_worthOf 266 = .ok (.lload 4, 2) := dk_22 4 (dk_at dksX4_worthOf_9 19 rfl rfl)
theorem dX4_worthOf_268 : decode cX4_worthOf 268 = .ok (.invokestatic 430, 3) := dk_184 1 174 (dk_at dksX4_worthOf_9 21 rfl rfl)
theorem dX4_worthOf_271 : decode cX4_worthOf 271 = .ok (.ifCond .eq 7, 3) := dk_153 0 7 (dk_at dksX4_worthOf_10 0 rfl rfl)
theorem dX4_worthOf_274 : decode cX4_worthOf 274 = .ok (.lconst 1, 1) := dk_10 (dk_at dksX4_worthOf_10 3 rfl rfl)
theorem dX4_worthOf_275 : decode cX4_worthOf 275 = .ok (.goto 4, 3) := dk_167 0 4 (dk_at dksX4_worthOf_10 4 rfl rfl)
theorem dX4_worthOf_278 : decode cX4_worthOf 278 = .ok (.lconst 0, 1) := dk_9 (dk_at dksX4_worthOf_10 7 rfl rfl)
theorem dX4_worthOf_279 : decode cX4_worthOf 279 = .ok (.lreturn, 1) := dk_173 (dk_at dksX4_worthOf_10 8 rfl rfl)
abbrev cX4_bounded : ByteArray := prog_18_method_90_code
def yX4_bounded : MethodName := ⟨RX4, "bounded", "(J)J"⟩
def dkwX4_bounded_1 : List UInt8 := [4, 167, 0, 4, 3, 181, 1, 160, 42, 180, 1, 160, 153, 0, 7, 9, 167, 0, 4, 31, 173]
abbrev dktX4_bounded_1 : List UInt8 := dkwX4_bounded_1 ++ []
def dkwX4_bounded_0 : List UInt8 := [42, 42, 180, 1, 160, 154, 0, 19, 31, 20, 1, 163, 148, 157, 0, 11, 31, 20, 1, 165, 148, 156, 0, 7]
abbrev dktX4_bounded_0 : List UInt8 := dkwX4_bounded_0 ++ dktX4_bounded_1
theorem dksX4_bounded_0 : cX4_bounded.data.toList.drop 0 = dktX4_bounded_0 := by decide +kernel
theorem dksX4_bounded_1 : cX4_bounded.data.toList.drop 24 = dktX4_bounded_1 := dk_seg dksX4_bounded_0 24 rfl rfl
theorem dX4_bounded_0 : decode cX4_bounded 0 = .ok (.aload_n 0, 1) := dk_42 (dk_at dksX4_bounded_0 0 rfl rfl)
theorem dX4_bounded_1 : decode cX4_bounded 1 = .ok (.aload_n 0, 1) := dk_42 (dk_at dksX4_bounded_0 1 rfl rfl)
theorem dX4_bounded_2 : decode cX4_bounded 2 = .ok (.getfield 416, 3) := dk_180 1 160 (dk_at dksX4_bounded_0 2 rfl rfl)
theorem dX4_bounded_5 : decode cX4_bounded 5 = .ok (.ifCond .ne 19, 3) := dk_154 0 19 (dk_at dksX4_bounded_0 5 rfl rfl)
theorem dX4_bounded_8 : decode cX4_bounded 8 = .ok (.lload_n 1, 1) := dk_31 (dk_at dksX4_bounded_0 8 rfl rfl)
theorem dX4_bounded_9 : decode cX4_bounded 9 = .ok (.ldc2_w 419, 3) := dk_20 1 163 (dk_at dksX4_bounded_0 9 rfl rfl)
theorem dX4_bounded_12 : decode cX4_bounded 12 = .ok (.lcmp, 1) := dk_148 (dk_at dksX4_bounded_0 12 rfl rfl)
theorem dX4_bounded_13 : decode cX4_bounded 13 = .ok (.ifCond .gt 11, 3) := dk_157 0 11 (dk_at dksX4_bounded_0 13 rfl rfl)
theorem dX4_bounded_16 : decode cX4_bounded 16 = .ok (.lload_n 1, 1) := dk_31 (dk_at dksX4_bounded_0 16 rfl rfl)
theorem dX4_bounded_17 : decode cX4_bounded 17 = .ok (.ldc2_w 421, 3) := dk_20 1 165 (dk_at dksX4_bounded_0 17 rfl rfl)
theorem dX4_bounded_20 : decode cX4_bounded 20 = .ok (.lcmp, 1) := dk_148 (dk_at dksX4_bounded_0 20 rfl rfl)
theorem dX4_bounded_21 : decode cX4_bounded 21 = .ok (.ifCond .ge 7, 3) := dk_156 0 7 (dk_at dksX4_bounded_0 21 rfl rfl)
theorem dX4_bounded_24 : decode cX4_bounded 24 = .ok (.iconst 1, 1) := dk_4 (dk_at dksX4_bounded_1 0 rfl rfl)
theorem dX4_bounded_25 : decode cX4_bounded 25 = .ok (.goto 4, 3) := dk_167 0 4 (dk_at dksX4_bounded_1 1 rfl rfl)
theorem dX4_bounded_28 : decode cX4_bounded 28 = .ok (.iconst 0, 1) := dk_3 (dk_at dksX4_bounded_1 4 rfl rfl)
theorem dX4_bounded_29 : decode cX4_bounded 29 = .ok (.putfield 416, 3) := dk_181 1 160 (dk_at dksX4_bounded_1 5 rfl rfl)
theorem dX4_bounded_32 : decode cX4_bounded 32 = .ok (.aload_n 0, 1) := dk_42 (dk_at dksX4_bounded_1 8 rfl rfl)
theorem dX4_bounded_33 : decode cX4_bounded 33 = .ok (.getfield 416, 3) := dk_180 1 160 (dk_at dksX4_bounded_1 9 rfl rfl)
theorem dX4_bounded_36 : decode cX4_bounded 36 = .ok (.ifCond .eq 7, 3) := dk_153 0 7 (dk_at dksX4_bounded_1 12 rfl rfl)
theorem dX4_bounded_39 : decode cX4_bounded 39 = .ok (.lconst 0, 1) := dk_9 (dk_at dksX4_bounded_1 15 rfl rfl)
theorem dX4_bounded_40 : decode cX4_bounded 40 = .ok (.goto 4, 3) := dk_167 0 4 (dk_at dksX4_bounded_1 16 rfl rfl)
theorem dX4_bounded_43 : decode cX4_bounded 43 = .ok (.lload_n 1, 1) := dk_31 (dk_at dksX4_bounded_1 19 rfl rfl)
theorem dX4_bounded_44 : decode cX4_bounded 44 = .ok (.lreturn, 1) := dk_173 (dk_at dksX4_bounded_1 20 rfl rfl)
abbrev cX4_times : ByteArray := prog_18_method_92_code
def yX4_times : MethodName := ⟨RX4, "times", "(JJ)J"⟩
def dkwX4_times_3 : List UInt8 := [42, 180, 1, 160, 153, 0, 7, 9, 167, 0, 6, 31, 33, 105, 173]
abbrev dktX4_times_3 : List UInt8 := dkwX4_times_3 ++ []
def dkwX4_times_2 : List UInt8 := [3, 54, 5, 42, 42, 180, 1, 160, 154, 0, 8, 21, 5, 153, 0, 7, 4, 167, 0, 4, 3, 181, 1, 160]
abbrev dktX4_times_2 : List UInt8 := dkwX4_times_2 ++ dktX4_times_3
def dkwX4_times_1 : List UInt8 := [20, 1, 163, 31, 9, 148, 156, 0, 8, 31, 117, 167, 0, 4, 31, 109, 148, 158, 0, 7, 4, 167, 0, 4]
abbrev dktX4_times_1 : List UInt8 := dkwX4_times_1 ++ dktX4_times_2
def dkwX4_times_0 : List UInt8 := [31, 9, 148, 153, 0, 45, 33, 9, 148, 153, 0, 39, 33, 9, 148, 156, 0, 8, 33, 117, 167, 0, 4, 33]
abbrev dktX4_times_0 : List UInt8 := dkwX4_times_0 ++ dktX4_times_1
theorem dksX4_times_0 : cX4_times.data.toList.drop 0 = dktX4_times_0 := by decide +kernel
theorem dksX4_times_1 : cX4_times.data.toList.drop 24 = dktX4_times_1 := dk_seg dksX4_times_0 24 rfl rfl
theorem dksX4_times_2 : cX4_times.data.toList.drop 48 = dktX4_times_2 := dk_seg dksX4_times_1 24 rfl rfl
theorem dksX4_times_3 : cX4_times.data.toList.drop 72 = dktX4_times_3 := dk_seg dksX4_times_2 24 rfl rfl
theorem dX4_times_0 : decode cX4_times 0 = .ok (.lload_n 1, 1) := dk_31 (dk_at dksX4_times_0 0 rfl rfl)
theorem dX4_times_1 : decode cX4_times 1 = .ok (.lconst 0, 1) := dk_9 (dk_at dksX4_times_0 1 rfl rfl)
theorem dX4_times_2 : decode cX4_times 2 = .ok (.lcmp, 1) := dk_148 (dk_at dksX4_times_0 2 rfl rfl)
theorem dX4_times_3 : decode cX4_times 3 = .ok (.ifCond .eq 45, 3) := dk_153 0 45 (dk_at dksX4_times_0 3 rfl rfl)
theorem dX4_times_6 : decode cX4_times 6 = .ok (.lload_n 3, 1) := dk_33 (dk_at dksX4_times_0 6 rfl rfl)
theorem dX4_times_7 : decode cX4_times 7 = .ok (.lconst 0, 1) := dk_9 (dk_at dksX4_times_0 7 rfl rfl)
theorem dX4_times_8 : decode cX4_times 8 = .ok (.lcmp, 1) := dk_148 (dk_at dksX4_times_0 8 rfl rfl)
theorem dX4_times_9 : decode cX4_times 9 = .ok (.ifCond .eq 39, 3) := dk_153 0 39 (dk_at dksX4_times_0 9 rfl rfl)
theorem dX4_times_12 : decode cX4_times 12 = .ok (.lload_n 3, 1) := dk_33 (dk_at dksX4_times_0 12 rfl rfl)
theorem dX4_times_13 : decode cX4_times 13 = .ok (.lconst 0, 1) := dk_9 (dk_at dksX4_times_0 13 rfl rfl)
theorem dX4_times_14 : decode cX4_times 14 = .ok (.lcmp, 1) := dk_148 (dk_at dksX4_times_0 14 rfl rfl)
theorem dX4_times_15 : decode cX4_times 15 = .ok (.ifCond .ge 8, 3) := dk_156 0 8 (dk_at dksX4_times_0 15 rfl rfl)
theorem dX4_times_18 : decode cX4_times 18 = .ok (.lload_n 3, 1) := dk_33 (dk_at dksX4_times_0 18 rfl rfl)
theorem dX4_times_19 : decode cX4_times 19 = .ok (.lneg, 1) := dk_117 (dk_at dksX4_times_0 19 rfl rfl)
theorem dX4_times_20 : decode cX4_times 20 = .ok (.goto 4, 3) := dk_167 0 4 (dk_at dksX4_times_0 20 rfl rfl)
theorem dX4_times_23 : decode cX4_times 23 = .ok (.lload_n 3, 1) := dk_33 (dk_at dksX4_times_0 23 rfl rfl)
theorem dX4_times_24 : decode cX4_times 24 = .ok (.ldc2_w 419, 3) := dk_20 1 163 (dk_at dksX4_times_1 0 rfl rfl)
theorem dX4_times_27 : decode cX4_times 27 = .ok (.lload_n 1, 1) := dk_31 (dk_at dksX4_times_1 3 rfl rfl)
theorem dX4_times_28 : decode cX4_times 28 = .ok (.lconst 0, 1) := dk_9 (dk_at dksX4_times_1 4 rfl rfl)
theorem dX4_times_29 : decode cX4_times 29 = .ok (.lcmp, 1) := dk_148 (dk_at dksX4_times_1 5 rfl rfl)
theorem dX4_times_30 : decode cX4_times 30 = .ok (.ifCond .ge 8, 3) := dk_156 0 8 (dk_at dksX4_times_1 6 rfl rfl)
theorem dX4_times_33 : decode cX4_times 33 = .ok (.lload_n 1, 1) := dk_31 (dk_at dksX4_times_1 9 rfl rfl)
theorem dX4_times_34 : decode cX4_times 34 = .ok (.lneg, 1) := dk_117 (dk_at dksX4_times_1 10 rfl rfl)
theorem dX4_times_35 : decode cX4_times 35 = .ok (.goto 4, 3) := dk_167 0 4 (dk_at dksX4_times_1 11 rfl rfl)
theorem dX4_times_38 : decode cX4_times 38 = .ok (.lload_n 1, 1) := dk_31 (dk_at dksX4_times_1 14 rfl rfl)
theorem dX4_times_39 : decode cX4_times 39 = .ok (.ldiv, 1) := dk_109 (dk_at dksX4_times_1 15 rfl rfl)
theorem dX4_times_40 : decode cX4_times 40 = .ok (.lcmp, 1) := dk_148 (dk_at dksX4_times_1 16 rfl rfl)
theorem dX4_times_41 : decode cX4_times 41 = .ok (.ifCond .le 7, 3) := dk_158 0 7 (dk_at dksX4_times_1 17 rfl rfl)
theorem dX4_times_44 : decode cX4_times 44 = .ok (.iconst 1, 1) := dk_4 (dk_at dksX4_times_1 20 rfl rfl)
theorem dX4_times_45 : decode cX4_times 45 = .ok (.goto 4, 3) := dk_167 0 4 (dk_at dksX4_times_1 21 rfl rfl)
theorem dX4_times_48 : decode cX4_times 48 = .ok (.iconst 0, 1) := dk_3 (dk_at dksX4_times_2 0 rfl rfl)
theorem dX4_times_49 : decode cX4_times 49 = .ok (.istore 5, 2) := dk_54 5 (dk_at dksX4_times_2 1 rfl rfl)
theorem dX4_times_51 : decode cX4_times 51 = .ok (.aload_n 0, 1) := dk_42 (dk_at dksX4_times_2 3 rfl rfl)
theorem dX4_times_52 : decode cX4_times 52 = .ok (.aload_n 0, 1) := dk_42 (dk_at dksX4_times_2 4 rfl rfl)
theorem dX4_times_53 : decode cX4_times 53 = .ok (.getfield 416, 3) := dk_180 1 160 (dk_at dksX4_times_2 5 rfl rfl)
theorem dX4_times_56 : decode cX4_times 56 = .ok (.ifCond .ne 8, 3) := dk_154 0 8 (dk_at dksX4_times_2 8 rfl rfl)
theorem dX4_times_59 : decode cX4_times 59 = .ok (.iload 5, 2) := dk_21 5 (dk_at dksX4_times_2 11 rfl rfl)
theorem dX4_times_61 : decode cX4_times 61 = .ok (.ifCond .eq 7, 3) := dk_153 0 7 (dk_at dksX4_times_2 13 rfl rfl)
theorem dX4_times_64 : decode cX4_times 64 = .ok (.iconst 1, 1) := dk_4 (dk_at dksX4_times_2 16 rfl rfl)
theorem dX4_times_65 : decode cX4_times 65 = .ok (.goto 4, 3) := dk_167 0 4 (dk_at dksX4_times_2 17 rfl rfl)
theorem dX4_times_68 : decode cX4_times 68 = .ok (.iconst 0, 1) := dk_3 (dk_at dksX4_times_2 20 rfl rfl)
theorem dX4_times_69 : decode cX4_times 69 = .ok (.putfield 416, 3) := dk_181 1 160 (dk_at dksX4_times_2 21 rfl rfl)
theorem dX4_times_72 : decode cX4_times 72 = .ok (.aload_n 0, 1) := dk_42 (dk_at dksX4_times_3 0 rfl rfl)
theorem dX4_times_73 : decode cX4_times 73 = .ok (.getfield 416, 3) := dk_180 1 160 (dk_at dksX4_times_3 1 rfl rfl)
theorem dX4_times_76 : decode cX4_times 76 = .ok (.ifCond .eq 7, 3) := dk_153 0 7 (dk_at dksX4_times_3 4 rfl rfl)
theorem dX4_times_79 : decode cX4_times 79 = .ok (.lconst 0, 1) := dk_9 (dk_at dksX4_times_3 7 rfl rfl)
theorem dX4_times_80 : decode cX4_times 80 = .ok (.goto 6, 3) := dk_167 0 6 (dk_at dksX4_times_3 8 rfl rfl)
theorem dX4_times_83 : decode cX4_times 83 = .ok (.lload_n 1, 1) := dk_31 (dk_at dksX4_times_3 11 rfl rfl)
theorem dX4_times_84 : decode cX4_times 84 = .ok (.lload_n 3, 1) := dk_33 (dk_at dksX4_times_3 12 rfl rfl)
theorem dX4_times_85 : decode cX4_times 85 = .ok (.lmul, 1) := dk_105 (dk_at dksX4_times_3 13 rfl rfl)
theorem dX4_times_86 : decode cX4_times 86 = .ok (.lreturn, 1) := dk_173 (dk_at dksX4_times_3 14 rfl rfl)
abbrev cX4_compares : ByteArray := prog_18_method_91_code
def yX4_compares : MethodName := ⟨RX4, "compares", "(IJJ)Z"⟩
def dkwX4_compares_4 : List UInt8 := [31, 33, 148, 155, 0, 7, 4, 167, 0, 4, 3, 172, 31, 33, 148, 158, 0, 7, 4, 167, 0, 4, 3, 172]
abbrev dktX4_compares_4 : List UInt8 := dkwX4_compares_4 ++ []
def dkwX4_compares_3 : List UInt8 := [31, 33, 148, 154, 0, 7, 4, 167, 0, 4, 3, 172, 31, 33, 148, 153, 0, 7, 4, 167, 0, 4, 3, 172]
abbrev dktX4_compares_3 : List UInt8 := dkwX4_compares_3 ++ dktX4_compares_4
def dkwX4_compares_2 : List UInt8 := [31, 33, 148, 156, 0, 7, 4, 167, 0, 4, 3, 172, 31, 33, 148, 157, 0, 7, 4, 167, 0, 4, 3, 172]
abbrev dktX4_compares_2 : List UInt8 := dkwX4_compares_2 ++ dktX4_compares_3
def dkwX4_compares_1 : List UInt8 := [170, 0, 0, 0, 0, 0, 95, 0, 0, 0, 5, 0, 0, 0, 9, 0, 0, 0, 35, 0, 0, 0, 47, 0, 0, 0, 59, 0, 0, 0, 71, 0, 0, 0, 83]
abbrev dktX4_compares_1 : List UInt8 := dkwX4_compares_1 ++ dktX4_compares_2
def dkwX4_compares_0 : List UInt8 := [26]
abbrev dktX4_compares_0 : List UInt8 := dkwX4_compares_0 ++ dktX4_compares_1
theorem dksX4_compares_0 : cX4_compares.data.toList.drop 0 = dktX4_compares_0 := by decide +kernel
theorem dksX4_compares_1 : cX4_compares.data.toList.drop 1 = dktX4_compares_1 := dk_seg dksX4_compares_0 1 rfl rfl
theorem dksX4_compares_2 : cX4_compares.data.toList.drop 36 = dktX4_compares_2 := dk_seg dksX4_compares_1 35 rfl rfl
theorem dksX4_compares_3 : cX4_compares.data.toList.drop 60 = dktX4_compares_3 := dk_seg dksX4_compares_2 24 rfl rfl
theorem dksX4_compares_4 : cX4_compares.data.toList.drop 84 = dktX4_compares_4 := dk_seg dksX4_compares_3 24 rfl rfl
theorem dX4_compares_0 : decode cX4_compares 0 = .ok (.iload_n 0, 1) := dk_26 (dk_at dksX4_compares_0 0 rfl rfl)
theorem dX4_compares_1 : decode cX4_compares 1 = .ok (.tableswitch 95 5 9 #[35, 47, 59, 71, 83], 35) := by decide +kernel
theorem dX4_compares_36 : decode cX4_compares 36 = .ok (.lload_n 1, 1) := dk_31 (dk_at dksX4_compares_2 0 rfl rfl)
theorem dX4_compares_37 : decode cX4_compares 37 = .ok (.lload_n 3, 1) := dk_33 (dk_at dksX4_compares_2 1 rfl rfl)
theorem dX4_compares_38 : decode cX4_compares 38 = .ok (.lcmp, 1) := dk_148 (dk_at dksX4_compares_2 2 rfl rfl)
theorem dX4_compares_39 : decode cX4_compares 39 = .ok (.ifCond .ge 7, 3) := dk_156 0 7 (dk_at dksX4_compares_2 3 rfl rfl)
theorem dX4_compares_42 : decode cX4_compares 42 = .ok (.iconst 1, 1) := dk_4 (dk_at dksX4_compares_2 6 rfl rfl)
theorem dX4_compares_43 : decode cX4_compares 43 = .ok (.goto 4, 3) := dk_167 0 4 (dk_at dksX4_compares_2 7 rfl rfl)
theorem dX4_compares_46 : decode cX4_compares 46 = .ok (.iconst 0, 1) := dk_3 (dk_at dksX4_compares_2 10 rfl rfl)
theorem dX4_compares_47 : decode cX4_compares 47 = .ok (.ireturn, 1) := dk_172 (dk_at dksX4_compares_2 11 rfl rfl)
theorem dX4_compares_48 : decode cX4_compares 48 = .ok (.lload_n 1, 1) := dk_31 (dk_at dksX4_compares_2 12 rfl rfl)
theorem dX4_compares_49 : decode cX4_compares 49 = .ok (.lload_n 3, 1) := dk_33 (dk_at dksX4_compares_2 13 rfl rfl)
theorem dX4_compares_50 : decode cX4_compares 50 = .ok (.lcmp, 1) := dk_148 (dk_at dksX4_compares_2 14 rfl rfl)
theorem dX4_compares_51 : decode cX4_compares 51 = .ok (.ifCond .gt 7, 3) := dk_157 0 7 (dk_at dksX4_compares_2 15 rfl rfl)
theorem dX4_compares_54 : decode cX4_compares 54 = .ok (.iconst 1, 1) := dk_4 (dk_at dksX4_compares_2 18 rfl rfl)
theorem dX4_compares_55 : decode cX4_compares 55 = .ok (.goto 4, 3) := dk_167 0 4 (dk_at dksX4_compares_2 19 rfl rfl)
theorem dX4_compares_58 : decode cX4_compares 58 = .ok (.iconst 0, 1) := dk_3 (dk_at dksX4_compares_2 22 rfl rfl)
theorem dX4_compares_59 : decode cX4_compares 59 = .ok (.ireturn, 1) := dk_172 (dk_at dksX4_compares_2 23 rfl rfl)
theorem dX4_compares_60 : decode cX4_compares 60 = .ok (.lload_n 1, 1) := dk_31 (dk_at dksX4_compares_3 0 rfl rfl)
theorem dX4_compares_61 : decode cX4_compares 61 = .ok (.lload_n 3, 1) := dk_33 (dk_at dksX4_compares_3 1 rfl rfl)
theorem dX4_compares_62 : decode cX4_compares 62 = .ok (.lcmp, 1) := dk_148 (dk_at dksX4_compares_3 2 rfl rfl)
theorem dX4_compares_63 : decode cX4_compares 63 = .ok (.ifCond .ne 7, 3) := dk_154 0 7 (dk_at dksX4_compares_3 3 rfl rfl)
theorem dX4_compares_66 : decode cX4_compares 66 = .ok (.iconst 1, 1) := dk_4 (dk_at dksX4_compares_3 6 rfl rfl)
theorem dX4_compares_67 : decode cX4_compares 67 = .ok (.goto 4, 3) := dk_167 0 4 (dk_at dksX4_compares_3 7 rfl rfl)
theorem dX4_compares_70 : decode cX4_compares 70 = .ok (.iconst 0, 1) := dk_3 (dk_at dksX4_compares_3 10 rfl rfl)
theorem dX4_compares_71 : decode cX4_compares 71 = .ok (.ireturn, 1) := dk_172 (dk_at dksX4_compares_3 11 rfl rfl)
theorem dX4_compares_72 : decode cX4_compares 72 = .ok (.lload_n 1, 1) := dk_31 (dk_at dksX4_compares_3 12 rfl rfl)
theorem dX4_compares_73 : decode cX4_compares 73 = .ok (.lload_n 3, 1) := dk_33 (dk_at dksX4_compares_3 13 rfl rfl)
theorem dX4_compares_74 : decode cX4_compares 74 = .ok (.lcmp, 1) := dk_148 (dk_at dksX4_compares_3 14 rfl rfl)
theorem dX4_compares_75 : decode cX4_compares 75 = .ok (.ifCond .eq 7, 3) := dk_153 0 7 (dk_at dksX4_compares_3 15 rfl rfl)
theorem dX4_compares_78 : decode cX4_compares 78 = .ok (.iconst 1, 1) := dk_4 (dk_at dksX4_compares_3 18 rfl rfl)
theorem dX4_compares_79 : decode cX4_compares 79 = .ok (.goto 4, 3) := dk_167 0 4 (dk_at dksX4_compares_3 19 rfl rfl)
theorem dX4_compares_82 : decode cX4_compares 82 = .ok (.iconst 0, 1) := dk_3 (dk_at dksX4_compares_3 22 rfl rfl)
theorem dX4_compares_83 : decode cX4_compares 83 = .ok (.ireturn, 1) := dk_172 (dk_at dksX4_compares_3 23 rfl rfl)
theorem dX4_compares_84 : decode cX4_compares 84 = .ok (.lload_n 1, 1) := dk_31 (dk_at dksX4_compares_4 0 rfl rfl)
theorem dX4_compares_85 : decode cX4_compares 85 = .ok (.lload_n 3, 1) := dk_33 (dk_at dksX4_compares_4 1 rfl rfl)
theorem dX4_compares_86 : decode cX4_compares 86 = .ok (.lcmp, 1) := dk_148 (dk_at dksX4_compares_4 2 rfl rfl)
theorem dX4_compares_87 : decode cX4_compares 87 = .ok (.ifCond .lt 7, 3) := dk_155 0 7 (dk_at dksX4_compares_4 3 rfl rfl)
theorem dX4_compares_90 : decode cX4_compares 90 = .ok (.iconst 1, 1) := dk_4 (dk_at dksX4_compares_4 6 rfl rfl)
theorem dX4_compares_91 : decode cX4_compares 91 = .ok (.goto 4, 3) := dk_167 0 4 (dk_at dksX4_compares_4 7 rfl rfl)
theorem dX4_compares_94 : decode cX4_compares 94 = .ok (.iconst 0, 1) := dk_3 (dk_at dksX4_compares_4 10 rfl rfl)
theorem dX4_compares_95 : decode cX4_compares 95 = .ok (.ireturn, 1) := dk_172 (dk_at dksX4_compares_4 11 rfl rfl)
theorem dX4_compares_96 : decode cX4_compares 96 = .ok (.lload_n 1, 1) := dk_31 (dk_at dksX4_compares_4 12 rfl rfl)
theorem dX4_compares_97 : decode cX4_compares 97 = .ok (.lload_n 3, 1) := dk_33 (dk_at dksX4_compares_4 13 rfl rfl)
theorem dX4_compares_98 : decode cX4_compares 98 = .ok (.lcmp, 1) := dk_148 (dk_at dksX4_compares_4 14 rfl rfl)
theorem dX4_compares_99 : decode cX4_compares 99 = .ok (.ifCond .le 7, 3) := dk_158 0 7 (dk_at dksX4_compares_4 15 rfl rfl)
theorem dX4_compares_102 : decode cX4_compares 102 = .ok (.iconst 1, 1) := dk_4 (dk_at dksX4_compares_4 18 rfl rfl)
theorem dX4_compares_103 : decode cX4_compares 103 = .ok (.goto 4, 3) := dk_167 0 4 (dk_at dksX4_compares_4 19 rfl rfl)
theorem dX4_compares_106 : decode cX4_compares 106 = .ok (.iconst 0, 1) := dk_3 (dk_at dksX4_compares_4 22 rfl rfl)
theorem dX4_compares_107 : decode cX4_compares 107 = .ok (.ireturn, 1) := dk_172 (dk_at dksX4_compares_4 23 rfl rfl)
abbrev cX4_draws : ByteArray := prog_18_method_104_code
def yX4_draws : MethodName := ⟨RX4, "draws", "(III)I"⟩
def dkwX4_draws_10 : List UInt8 := [21, 5, 172]
abbrev dktX4_draws_10 : List UInt8 := dkwX4_draws_10 ++ []
def dkwX4_draws_9 : List UInt8 := [21, 5, 21, 7, 21, 4, 161, 0, 7, 4, 167, 0, 4, 3, 96, 54, 5, 132, 6, 1, 167, 255, 118]
abbrev dktX4_draws_9 : List UInt8 := dkwX4_draws_9 ++ dktX4_draws_10
def dkwX4_draws_8 : List UInt8 := [180, 0, 60, 21, 8, 46, 46, 160, 0, 7, 4, 167, 0, 4, 3, 96, 54, 7, 132, 8, 1, 167, 255, 153]
abbrev dktX4_draws_8 : List UInt8 := dkwX4_draws_8 ++ dktX4_draws_9
def dkwX4_draws_7 : List UInt8 := [42, 180, 0, 60, 21, 8, 46, 46, 182, 1, 216, 54, 10, 21, 7, 21, 10, 42, 180, 0, 26, 42]
abbrev dktX4_draws_7 : List UInt8 := dkwX4_draws_7 ++ dktX4_draws_8
def dkwX4_draws_6 : List UInt8 := [16, 100, 182, 1, 216, 42, 21, 8, 182, 1, 196, 162, 0, 8, 21, 9, 167, 0, 19, 42, 42, 180, 0, 23]
abbrev dktX4_draws_6 : List UInt8 := dkwX4_draws_6 ++ dktX4_draws_7
def dkwX4_draws_5 : List UInt8 := [182, 1, 210, 154, 0, 6, 167, 0, 81, 42, 21, 8, 182, 1, 213, 54, 9, 21, 9, 155, 0, 23, 42]
abbrev dktX4_draws_5 : List UInt8 := dkwX4_draws_5 ++ dktX4_draws_6
def dkwX4_draws_4 : List UInt8 := [162, 0, 138, 3, 54, 7, 3, 54, 8, 21, 8, 42, 180, 0, 198, 162, 0, 100, 42, 21, 8, 27]
abbrev dktX4_draws_4 : List UInt8 := dkwX4_draws_4 ++ dktX4_draws_5
def dkwX4_draws_3 : List UInt8 := [54, 4, 132, 5, 1, 167, 255, 215, 42, 28, 133, 181, 1, 199, 3, 54, 5, 3, 54, 6, 21, 6, 29]
abbrev dktX4_draws_3 : List UInt8 := dkwX4_draws_3 ++ dktX4_draws_4
def dkwX4_draws_2 : List UInt8 := [21, 5, 27, 182, 1, 210, 153, 0, 16, 42, 21, 5, 182, 1, 87, 153, 0, 7, 4, 167, 0, 4, 3, 96]
abbrev dktX4_draws_2 : List UInt8 := dkwX4_draws_2 ++ dktX4_draws_3
def dkwX4_draws_1 : List UInt8 := [154, 0, 5, 2, 172, 3, 54, 4, 3, 54, 5, 21, 5, 42, 180, 0, 198, 162, 0, 38, 21, 4, 42]
abbrev dktX4_draws_1 : List UInt8 := dkwX4_draws_1 ++ dktX4_draws_2
def dkwX4_draws_0 : List UInt8 := [42, 3, 181, 0, 124, 42, 27, 182, 1, 59, 153, 0, 17, 28, 155, 0, 13, 29, 4, 16, 99, 184, 1, 68]
abbrev dktX4_draws_0 : List UInt8 := dkwX4_draws_0 ++ dktX4_draws_1
theorem dksX4_draws_0 : cX4_draws.data.toList.drop 0 = dktX4_draws_0 := by decide +kernel
theorem dksX4_draws_1 : cX4_draws.data.toList.drop 24 = dktX4_draws_1 := dk_seg dksX4_draws_0 24 rfl rfl
theorem dksX4_draws_2 : cX4_draws.data.toList.drop 47 = dktX4_draws_2 := dk_seg dksX4_draws_1 23 rfl rfl
theorem dksX4_draws_3 : cX4_draws.data.toList.drop 71 = dktX4_draws_3 := dk_seg dksX4_draws_2 24 rfl rfl
theorem dksX4_draws_4 : cX4_draws.data.toList.drop 94 = dktX4_draws_4 := dk_seg dksX4_draws_3 23 rfl rfl
theorem dksX4_draws_5 : cX4_draws.data.toList.drop 116 = dktX4_draws_5 := dk_seg dksX4_draws_4 22 rfl rfl
theorem dksX4_draws_6 : cX4_draws.data.toList.drop 139 = dktX4_draws_6 := dk_seg dksX4_draws_5 23 rfl rfl
theorem dksX4_draws_7 : cX4_draws.data.toList.drop 163 = dktX4_draws_7 := dk_seg dksX4_draws_6 24 rfl rfl
theorem dksX4_draws_8 : cX4_draws.data.toList.drop 185 = dktX4_draws_8 := dk_seg dksX4_draws_7 22 rfl rfl
theorem dksX4_draws_9 : cX4_draws.data.toList.drop 209 = dktX4_draws_9 := dk_seg dksX4_draws_8 24 rfl rfl
theorem dksX4_draws_10 : cX4_draws.data.toList.drop 232 = dktX4_draws_10 := dk_seg dksX4_draws_9 23 rfl rfl
theorem dX4_draws_0 : decode cX4_draws 0 = .ok (.aload_n 0, 1) := dk_42 (dk_at dksX4_draws_0 0 rfl rfl)
theorem dX4_draws_1 : decode cX4_draws 1 = .ok (.iconst 0, 1) := dk_3 (dk_at dksX4_draws_0 1 rfl rfl)
theorem dX4_draws_2 : decode cX4_draws 2 = .ok (.putfield 124, 3) := dk_181 0 124 (dk_at dksX4_draws_0 2 rfl rfl)
theorem dX4_draws_5 : decode cX4_draws 5 = .ok (.aload_n 0, 1) := dk_42 (dk_at dksX4_draws_0 5 rfl rfl)
theorem dX4_draws_6 : decode cX4_draws 6 = .ok (.iload_n 1, 1) := dk_27 (dk_at dksX4_draws_0 6 rfl rfl)
theorem dX4_draws_7 : decode cX4_draws 7 = .ok (.invokevirtual 315, 3) := dk_182 1 59 (dk_at dksX4_draws_0 7 rfl rfl)
theorem dX4_draws_10 : decode cX4_draws 10 = .ok (.ifCond .eq 17, 3) := dk_153 0 17 (dk_at dksX4_draws_0 10 rfl rfl)
theorem dX4_draws_13 : decode cX4_draws 13 = .ok (.iload_n 2, 1) := dk_28 (dk_at dksX4_draws_0 13 rfl rfl)
theorem dX4_draws_14 : decode cX4_draws 14 = .ok (.ifCond .lt 13, 3) := dk_155 0 13 (dk_at dksX4_draws_0 14 rfl rfl)
theorem dX4_draws_17 : decode cX4_draws 17 = .ok (.iload_n 3, 1) := dk_29 (dk_at dksX4_draws_0 17 rfl rfl)
theorem dX4_draws_18 : decode cX4_draws 18 = .ok (.iconst 1, 1) := dk_4 (dk_at dksX4_draws_0 18 rfl rfl)
theorem dX4_draws_19 : decode cX4_draws 19 = .ok (.bipush 99, 2) := dk_16 99 (dk_at dksX4_draws_0 19 rfl rfl)
theorem dX4_draws_21 : decode cX4_draws 21 = .ok (.invokestatic 324, 3) := dk_184 1 68 (dk_at dksX4_draws_0 21 rfl rfl)
theorem dX4_draws_24 : decode cX4_draws 24 = .ok (.ifCond .ne 5, 3) := dk_154 0 5 (dk_at dksX4_draws_1 0 rfl rfl)
theorem dX4_draws_27 : decode cX4_draws 27 = .ok (.iconst (-1), 1) := dk_2 (dk_at dksX4_draws_1 3 rfl rfl)
theorem dX4_draws_28 : decode cX4_draws 28 = .ok (.ireturn, 1) := dk_172 (dk_at dksX4_draws_1 4 rfl rfl)
theorem dX4_draws_29 : decode cX4_draws 29 = .ok (.iconst 0, 1) := dk_3 (dk_at dksX4_draws_1 5 rfl rfl)
theorem dX4_draws_30 : decode cX4_draws 30 = .ok (.istore 4, 2) := dk_54 4 (dk_at dksX4_draws_1 6 rfl rfl)
theorem dX4_draws_32 : decode cX4_draws 32 = .ok (.iconst 0, 1) := dk_3 (dk_at dksX4_draws_1 8 rfl rfl)
theorem dX4_draws_33 : decode cX4_draws 33 = .ok (.istore 5, 2) := dk_54 5 (dk_at dksX4_draws_1 9 rfl rfl)
theorem dX4_draws_35 : decode cX4_draws 35 = .ok (.iload 5, 2) := dk_21 5 (dk_at dksX4_draws_1 11 rfl rfl)
theorem dX4_draws_37 : decode cX4_draws 37 = .ok (.aload_n 0, 1) := dk_42 (dk_at dksX4_draws_1 13 rfl rfl)
theorem dX4_draws_38 : decode cX4_draws 38 = .ok (.getfield 198, 3) := dk_180 0 198 (dk_at dksX4_draws_1 14 rfl rfl)
theorem dX4_draws_41 : decode cX4_draws 41 = .ok (.if_icmp .ge 38, 3) := dk_162 0 38 (dk_at dksX4_draws_1 17 rfl rfl)
theorem dX4_draws_44 : decode cX4_draws 44 = .ok (.iload 4, 2) := dk_21 4 (dk_at dksX4_draws_1 20 rfl rfl)
theorem dX4_draws_46 : decode cX4_draws 46 = .ok (.aload_n 0, 1) := dk_42 (dk_at dksX4_draws_1 22 rfl rfl)
theorem dX4_draws_47 : decode cX4_draws 47 = .ok (.iload 5, 2) := dk_21 5 (dk_at dksX4_draws_2 0 rfl rfl)
theorem dX4_draws_49 : decode cX4_draws 49 = .ok (.iload_n 1, 1) := dk_27 (dk_at dksX4_draws_2 2 rfl rfl)
theorem dX4_draws_50 : decode cX4_draws 50 = .ok (.invokevirtual 466, 3) := dk_182 1 210 (dk_at dksX4_draws_2 3 rfl rfl)
theorem dX4_draws_53 : decode cX4_draws 53 = .ok (.ifCond .eq 16, 3) := dk_153 0 16 (dk_at dksX4_draws_2 6 rfl rfl)
theorem dX4_draws_56 : decode cX4_draws 56 = .ok (.aload_n 0, 1) := dk_42 (dk_at dksX4_draws_2 9 rfl rfl)
theorem dX4_draws_57 : decode cX4_draws 57 = .ok (.iload 5, 2) := dk_21 5 (dk_at dksX4_draws_2 10 rfl rfl)
theorem dX4_draws_59 : decode cX4_draws 59 = .ok (.invokevirtual 343, 3) := dk_182 1 87 (dk_at dksX4_draws_2 12 rfl rfl)
theorem dX4_draws_62 : decode cX4_draws 62 = .ok (.ifCond .eq 7, 3) := dk_153 0 7 (dk_at dksX4_draws_2 15 rfl rfl)
theorem dX4_draws_65 : decode cX4_draws 65 = .ok (.iconst 1, 1) := dk_4 (dk_at dksX4_draws_2 18 rfl rfl)
theorem dX4_draws_66 : decode cX4_draws 66 = .ok (.goto 4, 3) := dk_167 0 4 (dk_at dksX4_draws_2 19 rfl rfl)
theorem dX4_draws_69 : decode cX4_draws 69 = .ok (.iconst 0, 1) := dk_3 (dk_at dksX4_draws_2 22 rfl rfl)
theorem dX4_draws_70 : decode cX4_draws 70 = .ok (.iadd, 1) := dk_96 (dk_at dksX4_draws_2 23 rfl rfl)
theorem dX4_draws_71 : decode cX4_draws 71 = .ok (.istore 4, 2) := dk_54 4 (dk_at dksX4_draws_3 0 rfl rfl)
theorem dX4_draws_73 : decode cX4_draws 73 = .ok (.iinc 5 1, 3) := dk_132 5 1 (dk_at dksX4_draws_3 2 rfl rfl)
theorem dX4_draws_76 : decode cX4_draws 76 = .ok (.goto (-41), 3) := dk_167 255 215 (dk_at dksX4_draws_3 5 rfl rfl)
theorem dX4_draws_79 : decode cX4_draws 79 = .ok (.aload_n 0, 1) := dk_42 (dk_at dksX4_draws_3 8 rfl rfl)
theorem dX4_draws_80 : decode cX4_draws 80 = .ok (.iload_n 2, 1) := dk_28 (dk_at dksX4_draws_3 9 rfl rfl)
theorem dX4_draws_81 : decode cX4_draws 81 = .ok (.i2l, 1) := dk_133 (dk_at dksX4_draws_3 10 rfl rfl)
theorem dX4_draws_82 : decode cX4_draws 82 = .ok (.putfield 455, 3) := dk_181 1 199 (dk_at dksX4_draws_3 11 rfl rfl)
theorem dX4_draws_85 : decode cX4_draws 85 = .ok (.iconst 0, 1) := dk_3 (dk_at dksX4_draws_3 14 rfl rfl)
theorem dX4_draws_86 : decode cX4_draws 86 = .ok (.istore 5, 2) := dk_54 5 (dk_at dksX4_draws_3 15 rfl rfl)
theorem dX4_draws_88 : decode cX4_draws 88 = .ok (.iconst 0, 1) := dk_3 (dk_at dksX4_draws_3 17 rfl rfl)
theorem dX4_draws_89 : decode cX4_draws 89 = .ok (.istore 6, 2) := dk_54 6 (dk_at dksX4_draws_3 18 rfl rfl)
theorem dX4_draws_91 : decode cX4_draws 91 = .ok (.iload 6, 2) := dk_21 6 (dk_at dksX4_draws_3 20 rfl rfl)
theorem dX4_draws_93 : decode cX4_draws 93 = .ok (.iload_n 3, 1) := dk_29 (dk_at dksX4_draws_3 22 rfl rfl)
theorem dX4_draws_94 : decode cX4_draws 94 = .ok (.if_icmp .ge 138, 3) := dk_162 0 138 (dk_at dksX4_draws_4 0 rfl rfl)
theorem dX4_draws_97 : decode cX4_draws 97 = .ok (.iconst 0, 1) := dk_3 (dk_at dksX4_draws_4 3 rfl rfl)
theorem dX4_draws_98 : decode cX4_draws 98 = .ok (.istore 7, 2) := dk_54 7 (dk_at dksX4_draws_4 4 rfl rfl)
theorem dX4_draws_100 : decode cX4_draws 100 = .ok (.iconst 0, 1) := dk_3 (dk_at dksX4_draws_4 6 rfl rfl)
theorem dX4_draws_101 : decode cX4_draws 101 = .ok (.istore 8, 2) := dk_54 8 (dk_at dksX4_draws_4 7 rfl rfl)
theorem dX4_draws_103 : decode cX4_draws 103 = .ok (.iload 8, 2) := dk_21 8 (dk_at dksX4_draws_4 9 rfl rfl)
theorem dX4_draws_105 : decode cX4_draws 105 = .ok (.aload_n 0, 1) := dk_42 (dk_at dksX4_draws_4 11 rfl rfl)
theorem dX4_draws_106 : decode cX4_draws 106 = .ok (.getfield 198, 3) := dk_180 0 198 (dk_at dksX4_draws_4 12 rfl rfl)
theorem dX4_draws_109 : decode cX4_draws 109 = .ok (.if_icmp .ge 100, 3) := dk_162 0 100 (dk_at dksX4_draws_4 15 rfl rfl)
theorem dX4_draws_112 : decode cX4_draws 112 = .ok (.aload_n 0, 1) := dk_42 (dk_at dksX4_draws_4 18 rfl rfl)
theorem dX4_draws_113 : decode cX4_draws 113 = .ok (.iload 8, 2) := dk_21 8 (dk_at dksX4_draws_4 19 rfl rfl)
theorem dX4_draws_115 : decode cX4_draws 115 = .ok (.iload_n 1, 1) := dk_27 (dk_at dksX4_draws_4 21 rfl rfl)
theorem dX4_draws_116 : decode cX4_draws 116 = .ok (.invokevirtual 466, 3) := dk_182 1 210 (dk_at dksX4_draws_5 0 rfl rfl)
theorem dX4_draws_119 : decode cX4_draws 119 = .ok (.ifCond .ne 6, 3) := dk_154 0 6 (dk_at dksX4_draws_5 3 rfl rfl)
theorem dX4_draws_122 : decode cX4_draws 122 = .ok (.goto 81, 3) := dk_167 0 81 (dk_at dksX4_draws_5 6 rfl rfl)
theorem dX4_draws_125 : decode cX4_draws 125 = .ok (.aload_n 0, 1) := dk_42 (dk_at dksX4_draws_5 9 rfl rfl)
theorem dX4_draws_126 : decode cX4_draws 126 = .ok (.iload 8, 2) := dk_21 8 (dk_at dksX4_draws_5 10 rfl rfl)
theorem dX4_draws_128 : decode cX4_draws 128 = .ok (.invokevirtual 469, 3) := dk_182 1 213 (dk_at dksX4_draws_5 12 rfl rfl)
theorem dX4_draws_131 : decode cX4_draws 131 = .ok (.istore 9, 2) := dk_54 9 (dk_at dksX4_draws_5 15 rfl rfl)
theorem dX4_draws_133 : decode cX4_draws 133 = .ok (.iload 9, 2) := dk_21 9 (dk_at dksX4_draws_5 17 rfl rfl)
theorem dX4_draws_135 : decode cX4_draws 135 = .ok (.ifCond .lt 23, 3) := dk_155 0 23 (dk_at dksX4_draws_5 19 rfl rfl)
theorem dX4_draws_138 : decode cX4_draws 138 = .ok (.aload_n 0, 1) := dk_42 (dk_at dksX4_draws_5 22 rfl rfl)
theorem dX4_draws_139 : decode cX4_draws 139 = .ok (.bipush 100, 2) := dk_16 100 (dk_at dksX4_draws_6 0 rfl rfl)
theorem dX4_draws_141 : decode cX4_draws 141 = .ok (.invokevirtual 472, 3) := dk_182 1 216 (dk_at dksX4_draws_6 2 rfl rfl)
theorem dX4_draws_144 : decode cX4_draws 144 = .ok (.aload_n 0, 1) := dk_42 (dk_at dksX4_draws_6 5 rfl rfl)
theorem dX4_draws_145 : decode cX4_draws 145 = .ok (.iload 8, 2) := dk_21 8 (dk_at dksX4_draws_6 6 rfl rfl)
theorem dX4_draws_147 : decode cX4_draws 147 = .ok (.invokevirtual 452, 3) := dk_182 1 196 (dk_at dksX4_draws_6 8 rfl rfl)
theorem dX4_draws_150 : decode cX4_draws 150 = .ok (.if_icmp .ge 8, 3) := dk_162 0 8 (dk_at dksX4_draws_6 11 rfl rfl)
theorem dX4_draws_153 : decode cX4_draws 153 = .ok (.iload 9, 2) := dk_21 9 (dk_at dksX4_draws_6 14 rfl rfl)
theorem dX4_draws_155 : decode cX4_draws 155 = .ok (.goto 19, 3) := dk_167 0 19 (dk_at dksX4_draws_6 16 rfl rfl)
theorem dX4_draws_158 : decode cX4_draws 158 = .ok (.aload_n 0, 1) := dk_42 (dk_at dksX4_draws_6 19 rfl rfl)
theorem dX4_draws_159 : decode cX4_draws 159 = .ok (.aload_n 0, 1) := dk_42 (dk_at dksX4_draws_6 20 rfl rfl)
theorem dX4_draws_160 : decode cX4_draws 160 = .ok (.getfield 23, 3) := dk_180 0 23 (dk_at dksX4_draws_6 21 rfl rfl)
theorem dX4_draws_163 : decode cX4_draws 163 = .ok (.aload_n 0, 1) := dk_42 (dk_at dksX4_draws_7 0 rfl rfl)
theorem dX4_draws_164 : decode cX4_draws 164 = .ok (.getfield 60, 3) := dk_180 0 60 (dk_at dksX4_draws_7 1 rfl rfl)
theorem dX4_draws_167 : decode cX4_draws 167 = .ok (.iload 8, 2) := dk_21 8 (dk_at dksX4_draws_7 4 rfl rfl)
theorem dX4_draws_169 : decode cX4_draws 169 = .ok (.iaload, 1) := dk_46 (dk_at dksX4_draws_7 6 rfl rfl)
theorem dX4_draws_170 : decode cX4_draws 170 = .ok (.iaload, 1) := dk_46 (dk_at dksX4_draws_7 7 rfl rfl)
theorem dX4_draws_171 : decode cX4_draws 171 = .ok (.invokevirtual 472, 3) := dk_182 1 216 (dk_at dksX4_draws_7 8 rfl rfl)
theorem dX4_draws_174 : decode cX4_draws 174 = .ok (.istore 10, 2) := dk_54 10 (dk_at dksX4_draws_7 11 rfl rfl)
theorem dX4_draws_176 : decode cX4_draws 176 = .ok (.iload 7, 2) := dk_21 7 (dk_at dksX4_draws_7 13 rfl rfl)
theorem dX4_draws_178 : decode cX4_draws 178 = .ok (.iload 10, 2) := dk_21 10 (dk_at dksX4_draws_7 15 rfl rfl)
theorem dX4_draws_180 : decode cX4_draws 180 = .ok (.aload_n 0, 1) := dk_42 (dk_at dksX4_draws_7 17 rfl rfl)
theorem dX4_draws_181 : decode cX4_draws 181 = .ok (.getfield 26, 3) := dk_180 0 26 (dk_at dksX4_draws_7 18 rfl rfl)
theorem dX4_draws_184 : decode cX4_draws 184 = .ok (.aload_n 0, 1) := dk_42 (dk_at dksX4_draws_7 21 rfl rfl)
theorem dX4_draws_185 : decode cX4_draws 185 = .ok (.getfield 60, 3) := dk_180 0 60 (dk_at dksX4_draws_8 0 rfl rfl)
theorem dX4_draws_188 : decode cX4_draws 188 = .ok (.iload 8, 2) := dk_21 8 (dk_at dksX4_draws_8 3 rfl rfl)
theorem dX4_draws_190 : decode cX4_draws 190 = .ok (.iaload, 1) := dk_46 (dk_at dksX4_draws_8 5 rfl rfl)
theorem dX4_draws_191 : decode cX4_draws 191 = .ok (.iaload, 1) := dk_46 (dk_at dksX4_draws_8 6 rfl rfl)
theorem dX4_draws_192 : decode cX4_draws 192 = .ok (.if_icmp .ne 7, 3) := dk_160 0 7 (dk_at dksX4_draws_8 7 rfl rfl)
theorem dX4_draws_195 : decode cX4_draws 195 = .ok (.iconst 1, 1) := dk_4 (dk_at dksX4_draws_8 10 rfl rfl)
theorem dX4_draws_196 : decode cX4_draws 196 = .ok (.goto 4, 3) := dk_167 0 4 (dk_at dksX4_draws_8 11 rfl rfl)
theorem dX4_draws_199 : decode cX4_draws 199 = .ok (.iconst 0, 1) := dk_3 (dk_at dksX4_draws_8 14 rfl rfl)
theorem dX4_draws_200 : decode cX4_draws 200 = .ok (.iadd, 1) := dk_96 (dk_at dksX4_draws_8 15 rfl rfl)
theorem dX4_draws_201 : decode cX4_draws 201 = .ok (.istore 7, 2) := dk_54 7 (dk_at dksX4_draws_8 16 rfl rfl)
theorem dX4_draws_203 : decode cX4_draws 203 = .ok (.iinc 8 1, 3) := dk_132 8 1 (dk_at dksX4_draws_8 18 rfl rfl)
theorem dX4_draws_206 : decode cX4_draws 206 = .ok (.goto (-103), 3) := dk_167 255 153 (dk_at dksX4_draws_8 21 rfl rfl)
theorem dX4_draws_209 : decode cX4_draws 209 = .ok (.iload 5, 2) := dk_21 5 (dk_at dksX4_draws_9 0 rfl rfl)
theorem dX4_draws_211 : decode cX4_draws 211 = .ok (.iload 7, 2) := dk_21 7 (dk_at dksX4_draws_9 2 rfl rfl)
theorem dX4_draws_213 : decode cX4_draws 213 = .ok (.iload 4, 2) := dk_21 4 (dk_at dksX4_draws_9 4 rfl rfl)
theorem dX4_draws_215 : decode cX4_draws 215 = .ok (.if_icmp .lt 7, 3) := dk_161 0 7 (dk_at dksX4_draws_9 6 rfl rfl)
theorem dX4_draws_218 : decode cX4_draws 218 = .ok (.iconst 1, 1) := dk_4 (dk_at dksX4_draws_9 9 rfl rfl)
theorem dX4_draws_219 : decode cX4_draws 219 = .ok (.goto 4, 3) := dk_167 0 4 (dk_at dksX4_draws_9 10 rfl rfl)
theorem dX4_draws_222 : decode cX4_draws 222 = .ok (.iconst 0, 1) := dk_3 (dk_at dksX4_draws_9 13 rfl rfl)
theorem dX4_draws_223 : decode cX4_draws 223 = .ok (.iadd, 1) := dk_96 (dk_at dksX4_draws_9 14 rfl rfl)
theorem dX4_draws_224 : decode cX4_draws 224 = .ok (.istore 5, 2) := dk_54 5 (dk_at dksX4_draws_9 15 rfl rfl)
theorem dX4_draws_226 : decode cX4_draws 226 = .ok (.iinc 6 1, 3) := dk_132 6 1 (dk_at dksX4_draws_9 17 rfl rfl)
theorem dX4_draws_229 : decode cX4_draws 229 = .ok (.goto (-138), 3) := dk_167 255 118 (dk_at dksX4_draws_9 20 rfl rfl)
theorem dX4_draws_232 : decode cX4_draws 232 = .ok (.iload 5, 2) := dk_21 5 (dk_at dksX4_draws_10 0 rfl rfl)
theorem dX4_draws_234 : decode cX4_draws 234 = .ok (.ireturn, 1) := dk_172 (dk_at dksX4_draws_10 2 rfl rfl)
abbrev cX4_isFirstOf : ByteArray := prog_18_method_103_code
def yX4_isFirstOf : MethodName := ⟨RX4, "isFirstOf", "(II)Z"⟩
def dkwX4_isFirstOf_1 : List UInt8 := [153, 0, 7, 4, 167, 0, 4, 3, 172]
abbrev dktX4_isFirstOf_1 : List UInt8 := dkwX4_isFirstOf_1 ++ []
def dkwX4_isFirstOf_0 : List UInt8 := [42, 27, 182, 1, 65, 153, 0, 25, 42, 180, 0, 54, 27, 46, 28, 160, 0, 15, 42, 27, 182, 1, 90]
abbrev dktX4_isFirstOf_0 : List UInt8 := dkwX4_isFirstOf_0 ++ dktX4_isFirstOf_1
theorem dksX4_isFirstOf_0 : cX4_isFirstOf.data.toList.drop 0 = dktX4_isFirstOf_0 := by decide +kernel
theorem dksX4_isFirstOf_1 : cX4_isFirstOf.data.toList.drop 23 = dktX4_isFirstOf_1 := dk_seg dksX4_isFirstOf_0 23 rfl rfl
theorem dX4_isFirstOf_0 : decode cX4_isFirstOf 0 = .ok (.aload_n 0, 1) := dk_42 (dk_at dksX4_isFirstOf_0 0 rfl rfl)
theorem dX4_isFirstOf_1 : decode cX4_isFirstOf 1 = .ok (.iload_n 1, 1) := dk_27 (dk_at dksX4_isFirstOf_0 1 rfl rfl)
theorem dX4_isFirstOf_2 : decode cX4_isFirstOf 2 = .ok (.invokevirtual 321, 3) := dk_182 1 65 (dk_at dksX4_isFirstOf_0 2 rfl rfl)
theorem dX4_isFirstOf_5 : decode cX4_isFirstOf 5 = .ok (.ifCond .eq 25, 3) := dk_153 0 25 (dk_at dksX4_isFirstOf_0 5 rfl rfl)
theorem dX4_isFirstOf_8 : decode cX4_isFirstOf 8 = .ok (.aload_n 0, 1) := dk_42 (dk_at dksX4_isFirstOf_0 8 rfl rfl)
theorem dX4_isFirstOf_9 : decode cX4_isFirstOf 9 = .ok (.getfield 54, 3) := dk_180 0 54 (dk_at dksX4_isFirstOf_0 9 rfl rfl)
theorem dX4_isFirstOf_12 : decode cX4_isFirstOf 12 = .ok (.iload_n 1, 1) := dk_27 (dk_at dksX4_isFirstOf_0 12 rfl rfl)
theorem dX4_isFirstOf_13 : decode cX4_isFirstOf 13 = .ok (.iaload, 1) := dk_46 (dk_at dksX4_isFirstOf_0 13 rfl rfl)
theorem dX4_isFirstOf_14 : decode cX4_isFirstOf 14 = .ok (.iload_n 2, 1) := dk_28 (dk_at dksX4_isFirstOf_0 14 rfl rfl)
theorem dX4_isFirstOf_15 : decode cX4_isFirstOf 15 = .ok (.if_icmp .ne 15, 3) := dk_160 0 15 (dk_at dksX4_isFirstOf_0 15 rfl rfl)
theorem dX4_isFirstOf_18 : decode cX4_isFirstOf 18 = .ok (.aload_n 0, 1) := dk_42 (dk_at dksX4_isFirstOf_0 18 rfl rfl)
theorem dX4_isFirstOf_19 : decode cX4_isFirstOf 19 = .ok (.iload_n 1, 1) := dk_27 (dk_at dksX4_isFirstOf_0 19 rfl rfl)
theorem dX4_isFirstOf_20 : decode cX4_isFirstOf 20 = .ok (.invokevirtual 346, 3) := dk_182 1 90 (dk_at dksX4_isFirstOf_0 20 rfl rfl)
theorem dX4_isFirstOf_23 : decode cX4_isFirstOf 23 = .ok (.ifCond .eq 7, 3) := dk_153 0 7 (dk_at dksX4_isFirstOf_1 0 rfl rfl)
theorem dX4_isFirstOf_26 : decode cX4_isFirstOf 26 = .ok (.iconst 1, 1) := dk_4 (dk_at dksX4_isFirstOf_1 3 rfl rfl)
theorem dX4_isFirstOf_27 : decode cX4_isFirstOf 27 = .ok (.goto 4, 3) := dk_167 0 4 (dk_at dksX4_isFirstOf_1 4 rfl rfl)
theorem dX4_isFirstOf_30 : decode cX4_isFirstOf 30 = .ok (.iconst 0, 1) := dk_3 (dk_at dksX4_isFirstOf_1 7 rfl rfl)
theorem dX4_isFirstOf_31 : decode cX4_isFirstOf 31 = .ok (.ireturn, 1) := dk_172 (dk_at dksX4_isFirstOf_1 8 rfl rfl)
abbrev cX4_putAhead : ByteArray := prog_18_method_102_code
def yX4_putAhead : MethodName := ⟨RX4, "putAhead", "(I)I"⟩
def dkwX4_putAhead_2 : List UInt8 := [180, 0, 63, 29, 46, 167, 0, 4, 28, 61, 132, 3, 1, 167, 255, 199, 28, 172]
abbrev dktX4_putAhead_2 : List UInt8 := dkwX4_putAhead_2 ++ []
def dkwX4_putAhead_1 : List UInt8 := [180, 0, 60, 29, 46, 42, 180, 0, 60, 27, 46, 160, 0, 21, 42, 180, 0, 63, 29, 46, 155, 0, 12, 42]
abbrev dktX4_putAhead_1 : List UInt8 := dkwX4_putAhead_1 ++ dktX4_putAhead_2
def dkwX4_putAhead_0 : List UInt8 := [2, 61, 3, 62, 29, 27, 162, 0, 58, 42, 29, 42, 180, 0, 54, 27, 46, 182, 1, 78, 153, 0, 36, 42]
abbrev dktX4_putAhead_0 : List UInt8 := dkwX4_putAhead_0 ++ dktX4_putAhead_1
theorem dksX4_putAhead_0 : cX4_putAhead.data.toList.drop 0 = dktX4_putAhead_0 := by decide +kernel
theorem dksX4_putAhead_1 : cX4_putAhead.data.toList.drop 24 = dktX4_putAhead_1 := dk_seg dksX4_putAhead_0 24 rfl rfl
theorem dksX4_putAhead_2 : cX4_putAhead.data.toList.drop 48 = dktX4_putAhead_2 := dk_seg dksX4_putAhead_1 24 rfl rfl
theorem dX4_putAhead_0 : decode cX4_putAhead 0 = .ok (.iconst (-1), 1) := dk_2 (dk_at dksX4_putAhead_0 0 rfl rfl)
theorem dX4_putAhead_1 : decode cX4_putAhead 1 = .ok (.istore_n 2, 1) := dk_61 (dk_at dksX4_putAhead_0 1 rfl rfl)
theorem dX4_putAhead_2 : decode cX4_putAhead 2 = .ok (.iconst 0, 1) := dk_3 (dk_at dksX4_putAhead_0 2 rfl rfl)
theorem dX4_putAhead_3 : decode cX4_putAhead 3 = .ok (.istore_n 3, 1) := dk_62 (dk_at dksX4_putAhead_0 3 rfl rfl)
theorem dX4_putAhead_4 : decode cX4_putAhead 4 = .ok (.iload_n 3, 1) := dk_29 (dk_at dksX4_putAhead_0 4 rfl rfl)
theorem dX4_putAhead_5 : decode cX4_putAhead 5 = .ok (.iload_n 1, 1) := dk_27 (dk_at dksX4_putAhead_0 5 rfl rfl)
theorem dX4_putAhead_6 : decode cX4_putAhead 6 = .ok (.if_icmp .ge 58, 3) := dk_162 0 58 (dk_at dksX4_putAhead_0 6 rfl rfl)
theorem dX4_putAhead_9 : decode cX4_putAhead 9 = .ok (.aload_n 0, 1) := dk_42 (dk_at dksX4_putAhead_0 9 rfl rfl)
theorem dX4_putAhead_10 : decode cX4_putAhead 10 = .ok (.iload_n 3, 1) := dk_29 (dk_at dksX4_putAhead_0 10 rfl rfl)
theorem dX4_putAhead_11 : decode cX4_putAhead 11 = .ok (.aload_n 0, 1) := dk_42 (dk_at dksX4_putAhead_0 11 rfl rfl)
theorem dX4_putAhead_12 : decode cX4_putAhead 12 = .ok (.getfield 54, 3) := dk_180 0 54 (dk_at dksX4_putAhead_0 12 rfl rfl)
theorem dX4_putAhead_15 : decode cX4_putAhead 15 = .ok (.iload_n 1, 1) := dk_27 (dk_at dksX4_putAhead_0 15 rfl rfl)
theorem dX4_putAhead_16 : decode cX4_putAhead 16 = .ok (.iaload, 1) := dk_46 (dk_at dksX4_putAhead_0 16 rfl rfl)
theorem dX4_putAhead_17 : decode cX4_putAhead 17 = .ok (.invokevirtual 334, 3) := dk_182 1 78 (dk_at dksX4_putAhead_0 17 rfl rfl)
theorem dX4_putAhead_20 : decode cX4_putAhead 20 = .ok (.ifCond .eq 36, 3) := dk_153 0 36 (dk_at dksX4_putAhead_0 20 rfl rfl)
theorem dX4_putAhead_23 : decode cX4_putAhead 23 = .ok (.aload_n 0, 1) := dk_42 (dk_at dksX4_putAhead_0 23 rfl rfl)
theorem dX4_putAhead_24 : decode cX4_putAhead 24 = .ok (.getfield 60, 3) := dk_180 0 60 (dk_at dksX4_putAhead_1 0 rfl rfl)
theorem dX4_putAhead_27 : decode cX4_putAhead 27 = .ok (.iload_n 3, 1) := dk_29 (dk_at dksX4_putAhead_1 3 rfl rfl)
theorem dX4_putAhead_28 : decode cX4_putAhead 28 = .ok (.iaload, 1) := dk_46 (dk_at dksX4_putAhead_1 4 rfl rfl)
theorem dX4_putAhead_29 : decode cX4_putAhead 29 = .ok (.aload_n 0, 1) := dk_42 (dk_at dksX4_putAhead_1 5 rfl rfl)
theorem dX4_putAhead_30 : decode cX4_putAhead 30 = .ok (.getfield 60, 3) := dk_180 0 60 (dk_at dksX4_putAhead_1 6 rfl rfl)
theorem dX4_putAhead_33 : decode cX4_putAhead 33 = .ok (.iload_n 1, 1) := dk_27 (dk_at dksX4_putAhead_1 9 rfl rfl)
theorem dX4_putAhead_34 : decode cX4_putAhead 34 = .ok (.iaload, 1) := dk_46 (dk_at dksX4_putAhead_1 10 rfl rfl)
theorem dX4_putAhead_35 : decode cX4_putAhead 35 = .ok (.if_icmp .ne 21, 3) := dk_160 0 21 (dk_at dksX4_putAhead_1 11 rfl rfl)
theorem dX4_putAhead_38 : decode cX4_putAhead 38 = .ok (.aload_n 0, 1) := dk_42 (dk_at dksX4_putAhead_1 14 rfl rfl)
theorem dX4_putAhead_39 : decode cX4_putAhead 39 = .ok (.getfield 63, 3) := dk_180 0 63 (dk_at dksX4_putAhead_1 15 rfl rfl)
theorem dX4_putAhead_42 : decode cX4_putAhead 42 = .ok (.iload_n 3, 1) := dk_29 (dk_at dksX4_putAhead_1 18 rfl rfl)
theorem dX4_putAhead_43 : decode cX4_putAhead 43 = .ok (.iaload, 1) := dk_46 (dk_at dksX4_putAhead_1 19 rfl rfl)
theorem dX4_putAhead_44 : decode cX4_putAhead 44 = .ok (.ifCond .lt 12, 3) := dk_155 0 12 (dk_at dksX4_putAhead_1 20 rfl rfl)
theorem dX4_putAhead_47 : decode cX4_putAhead 47 = .ok (.aload_n 0, 1) := dk_42 (dk_at dksX4_putAhead_1 23 rfl rfl)
theorem dX4_putAhead_48 : decode cX4_putAhead 48 = .ok (.getfield 63, 3) := dk_180 0 63 (dk_at dksX4_putAhead_2 0 rfl rfl)
theorem dX4_putAhead_51 : decode cX4_putAhead 51 = .ok (.iload_n 3, 1) := dk_29 (dk_at dksX4_putAhead_2 3 rfl rfl)
theorem dX4_putAhead_52 : decode cX4_putAhead 52 = .ok (.iaload, 1) := dk_46 (dk_at dksX4_putAhead_2 4 rfl rfl)
theorem dX4_putAhead_53 : decode cX4_putAhead 53 = .ok (.goto 4, 3) := dk_167 0 4 (dk_at dksX4_putAhead_2 5 rfl rfl)
theorem dX4_putAhead_56 : decode cX4_putAhead 56 = .ok (.iload_n 2, 1) := dk_28 (dk_at dksX4_putAhead_2 8 rfl rfl)
theorem dX4_putAhead_57 : decode cX4_putAhead 57 = .ok (.istore_n 2, 1) := dk_61 (dk_at dksX4_putAhead_2 9 rfl rfl)
theorem dX4_putAhead_58 : decode cX4_putAhead 58 = .ok (.iinc 3 1, 3) := dk_132 3 1 (dk_at dksX4_putAhead_2 10 rfl rfl)
theorem dX4_putAhead_61 : decode cX4_putAhead 61 = .ok (.goto (-57), 3) := dk_167 255 199 (dk_at dksX4_putAhead_2 13 rfl rfl)
theorem dX4_putAhead_64 : decode cX4_putAhead 64 = .ok (.iload_n 2, 1) := dk_28 (dk_at dksX4_putAhead_2 16 rfl rfl)
theorem dX4_putAhead_65 : decode cX4_putAhead 65 = .ok (.ireturn, 1) := dk_172 (dk_at dksX4_putAhead_2 17 rfl rfl)
abbrev cX4_drawn : ByteArray := prog_18_method_101_code
def yX4_drawn : MethodName := ⟨RX4, "drawn", "(I)I"⟩
def dkwX4_drawn_1 : List UInt8 := [20, 1, 208, 109, 27, 133, 113, 136, 172]
abbrev dktX4_drawn_1 : List UInt8 := dkwX4_drawn_1 ++ []
def dkwX4_drawn_0 : List UInt8 := [42, 42, 180, 1, 199, 20, 1, 202, 105, 20, 1, 204, 97, 20, 1, 206, 127, 181, 1, 199, 42, 180, 1, 199]
abbrev dktX4_drawn_0 : List UInt8 := dkwX4_drawn_0 ++ dktX4_drawn_1
theorem dksX4_drawn_0 : cX4_drawn.data.toList.drop 0 = dktX4_drawn_0 := by decide +kernel
theorem dksX4_drawn_1 : cX4_drawn.data.toList.drop 24 = dktX4_drawn_1 := dk_seg dksX4_drawn_0 24 rfl rfl
theorem dX4_drawn_0 : decode cX4_drawn 0 = .ok (.aload_n 0, 1) := dk_42 (dk_at dksX4_drawn_0 0 rfl rfl)
theorem dX4_drawn_1 : decode cX4_drawn 1 = .ok (.aload_n 0, 1) := dk_42 (dk_at dksX4_drawn_0 1 rfl rfl)
theorem dX4_drawn_2 : decode cX4_drawn 2 = .ok (.getfield 455, 3) := dk_180 1 199 (dk_at dksX4_drawn_0 2 rfl rfl)
theorem dX4_drawn_5 : decode cX4_drawn 5 = .ok (.ldc2_w 458, 3) := dk_20 1 202 (dk_at dksX4_drawn_0 5 rfl rfl)
theorem dX4_drawn_8 : decode cX4_drawn 8 = .ok (.lmul, 1) := dk_105 (dk_at dksX4_drawn_0 8 rfl rfl)
theorem dX4_drawn_9 : decode cX4_drawn 9 = .ok (.ldc2_w 460, 3) := dk_20 1 204 (dk_at dksX4_drawn_0 9 rfl rfl)
theorem dX4_drawn_12 : decode cX4_drawn 12 = .ok (.ladd, 1) := dk_97 (dk_at dksX4_drawn_0 12 rfl rfl)
theorem dX4_drawn_13 : decode cX4_drawn 13 = .ok (.ldc2_w 462, 3) := dk_20 1 206 (dk_at dksX4_drawn_0 13 rfl rfl)
theorem dX4_drawn_16 : decode cX4_drawn 16 = .ok (.land, 1) := dk_127 (dk_at dksX4_drawn_0 16 rfl rfl)
theorem dX4_drawn_17 : decode cX4_drawn 17 = .ok (.putfield 455, 3) := dk_181 1 199 (dk_at dksX4_drawn_0 17 rfl rfl)
theorem dX4_drawn_20 : decode cX4_drawn 20 = .ok (.aload_n 0, 1) := dk_42 (dk_at dksX4_drawn_0 20 rfl rfl)
theorem dX4_drawn_21 : decode cX4_drawn 21 = .ok (.getfield 455, 3) := dk_180 1 199 (dk_at dksX4_drawn_0 21 rfl rfl)
theorem dX4_drawn_24 : decode cX4_drawn 24 = .ok (.ldc2_w 464, 3) := dk_20 1 208 (dk_at dksX4_drawn_1 0 rfl rfl)
theorem dX4_drawn_27 : decode cX4_drawn 27 = .ok (.ldiv, 1) := dk_109 (dk_at dksX4_drawn_1 3 rfl rfl)
theorem dX4_drawn_28 : decode cX4_drawn 28 = .ok (.iload_n 1, 1) := dk_27 (dk_at dksX4_drawn_1 4 rfl rfl)
theorem dX4_drawn_29 : decode cX4_drawn 29 = .ok (.i2l, 1) := dk_133 (dk_at dksX4_drawn_1 5 rfl rfl)
theorem dX4_drawn_30 : decode cX4_drawn 30 = .ok (.lrem, 1) := dk_113 (dk_at dksX4_drawn_1 6 rfl rfl)
theorem dX4_drawn_31 : decode cX4_drawn 31 = .ok (.l2i, 1) := dk_136 (dk_at dksX4_drawn_1 7 rfl rfl)
theorem dX4_drawn_32 : decode cX4_drawn 32 = .ok (.ireturn, 1) := dk_172 (dk_at dksX4_drawn_1 8 rfl rfl)
abbrev cX4_barred : ByteArray := prog_18_method_112_code
def yX4_barred : MethodName := ⟨RX4, "barred", "(I)I"⟩
def dkwX4_barred_1 : List UInt8 := [153, 0, 7, 4, 167, 0, 4, 3, 172]
abbrev dktX4_barred_1 : List UInt8 := dkwX4_barred_1 ++ []
def dkwX4_barred_0 : List UInt8 := [42, 3, 181, 0, 124, 42, 27, 182, 1, 59, 154, 0, 7, 2, 167, 0, 16, 42, 27, 182, 1, 238]
abbrev dktX4_barred_0 : List UInt8 := dkwX4_barred_0 ++ dktX4_barred_1
theorem dksX4_barred_0 : cX4_barred.data.toList.drop 0 = dktX4_barred_0 := by decide +kernel
theorem dksX4_barred_1 : cX4_barred.data.toList.drop 22 = dktX4_barred_1 := dk_seg dksX4_barred_0 22 rfl rfl
theorem dX4_barred_0 : decode cX4_barred 0 = .ok (.aload_n 0, 1) := dk_42 (dk_at dksX4_barred_0 0 rfl rfl)
theorem dX4_barred_1 : decode cX4_barred 1 = .ok (.iconst 0, 1) := dk_3 (dk_at dksX4_barred_0 1 rfl rfl)
theorem dX4_barred_2 : decode cX4_barred 2 = .ok (.putfield 124, 3) := dk_181 0 124 (dk_at dksX4_barred_0 2 rfl rfl)
theorem dX4_barred_5 : decode cX4_barred 5 = .ok (.aload_n 0, 1) := dk_42 (dk_at dksX4_barred_0 5 rfl rfl)
theorem dX4_barred_6 : decode cX4_barred 6 = .ok (.iload_n 1, 1) := dk_27 (dk_at dksX4_barred_0 6 rfl rfl)
theorem dX4_barred_7 : decode cX4_barred 7 = .ok (.invokevirtual 315, 3) := dk_182 1 59 (dk_at dksX4_barred_0 7 rfl rfl)
theorem dX4_barred_10 : decode cX4_barred 10 = .ok (.ifCond .ne 7, 3) := dk_154 0 7 (dk_at dksX4_barred_0 10 rfl rfl)
theorem dX4_barred_13 : decode cX4_barred 13 = .ok (.iconst (-1), 1) := dk_2 (dk_at dksX4_barred_0 13 rfl rfl)
theorem dX4_barred_14 : decode cX4_barred 14 = .ok (.goto 16, 3) := dk_167 0 16 (dk_at dksX4_barred_0 14 rfl rfl)
theorem dX4_barred_17 : decode cX4_barred 17 = .ok (.aload_n 0, 1) := dk_42 (dk_at dksX4_barred_0 17 rfl rfl)
theorem dX4_barred_18 : decode cX4_barred 18 = .ok (.iload_n 1, 1) := dk_27 (dk_at dksX4_barred_0 18 rfl rfl)
theorem dX4_barred_19 : decode cX4_barred 19 = .ok (.invokevirtual 494, 3) := dk_182 1 238 (dk_at dksX4_barred_0 19 rfl rfl)
theorem dX4_barred_22 : decode cX4_barred 22 = .ok (.ifCond .eq 7, 3) := dk_153 0 7 (dk_at dksX4_barred_1 0 rfl rfl)
theorem dX4_barred_25 : decode cX4_barred 25 = .ok (.iconst 1, 1) := dk_4 (dk_at dksX4_barred_1 3 rfl rfl)
theorem dX4_barred_26 : decode cX4_barred 26 = .ok (.goto 4, 3) := dk_167 0 4 (dk_at dksX4_barred_1 4 rfl rfl)
theorem dX4_barred_29 : decode cX4_barred 29 = .ok (.iconst 0, 1) := dk_3 (dk_at dksX4_barred_1 7 rfl rfl)
theorem dX4_barred_30 : decode cX4_barred 30 = .ok (.ireturn, 1) := dk_172 (dk_at dksX4_barred_1 8 rfl rfl)
abbrev cX4_isBarred : ByteArray := prog_18_method_111_code
def yX4_isBarred : MethodName := ⟨RX4, "isBarred", "(I)Z"⟩
def dkwX4_isBarred_0 : List UInt8 := [42, 27, 182, 1, 232, 42, 4, 182, 1, 235, 172]
abbrev dktX4_isBarred_0 : List UInt8 := dkwX4_isBarred_0 ++ []
theorem dksX4_isBarred_0 : cX4_isBarred.data.toList.drop 0 = dktX4_isBarred_0 := by decide +kernel
theorem dX4_isBarred_0 : decode cX4_isBarred 0 = .ok (.aload_n 0, 1) := dk_42 (dk_at dksX4_isBarred_0 0 rfl rfl)
theorem dX4_isBarred_1 : decode cX4_isBarred 1 = .ok (.iload_n 1, 1) := dk_27 (dk_at dksX4_isBarred_0 1 rfl rfl)
theorem dX4_isBarred_2 : decode cX4_isBarred 2 = .ok (.invokevirtual 488, 3) := dk_182 1 232 (dk_at dksX4_isBarred_0 2 rfl rfl)
theorem dX4_isBarred_5 : decode cX4_isBarred 5 = .ok (.aload_n 0, 1) := dk_42 (dk_at dksX4_isBarred_0 5 rfl rfl)
theorem dX4_isBarred_6 : decode cX4_isBarred 6 = .ok (.iconst 1, 1) := dk_4 (dk_at dksX4_isBarred_0 6 rfl rfl)
theorem dX4_isBarred_7 : decode cX4_isBarred 7 = .ok (.invokevirtual 491, 3) := dk_182 1 235 (dk_at dksX4_isBarred_0 7 rfl rfl)
theorem dX4_isBarred_10 : decode cX4_isBarred 10 = .ok (.ireturn, 1) := dk_172 (dk_at dksX4_isBarred_0 10 rfl rfl)
abbrev cX4_namesByBoth : ByteArray := prog_18_method_108_code
def yX4_namesByBoth : MethodName := ⟨RX4, "namesByBoth", "(I)V"⟩
def dkwX4_namesByBoth_4 : List UInt8 := [16, 9, 92, 47, 10, 97, 80, 132, 2, 1, 167, 255, 197, 177]
abbrev dktX4_namesByBoth_4 : List UInt8 := dkwX4_namesByBoth_4 ++ []
def dkwX4_namesByBoth_3 : List UInt8 := [16, 8, 92, 47, 42, 28, 182, 1, 133, 4, 164, 0, 7, 10, 167, 0, 4, 9, 97, 80, 42, 180, 0, 111]
abbrev dktX4_namesByBoth_3 : List UInt8 := dkwX4_namesByBoth_3 ++ dktX4_namesByBoth_4
def dkwX4_namesByBoth_2 : List UInt8 := [180, 0, 201, 162, 0, 57, 42, 180, 0, 66, 28, 46, 27, 159, 0, 6, 167, 0, 38, 42, 180, 0, 111]
abbrev dktX4_namesByBoth_2 : List UInt8 := dkwX4_namesByBoth_2 ++ dktX4_namesByBoth_3
def dkwX4_namesByBoth_1 : List UInt8 := [133, 80, 42, 180, 0, 111, 5, 42, 27, 42, 180, 0, 44, 27, 46, 182, 1, 191, 133, 80, 3, 61, 28, 42]
abbrev dktX4_namesByBoth_1 : List UInt8 := dkwX4_namesByBoth_1 ++ dktX4_namesByBoth_2
def dkwX4_namesByBoth_0 : List UInt8 := [42, 27, 3, 182, 1, 226, 42, 180, 0, 111, 4, 42, 180, 0, 44, 27, 46, 42, 180, 0, 41, 27, 46, 100]
abbrev dktX4_namesByBoth_0 : List UInt8 := dkwX4_namesByBoth_0 ++ dktX4_namesByBoth_1
theorem dksX4_namesByBoth_0 : cX4_namesByBoth.data.toList.drop 0 = dktX4_namesByBoth_0 := by decide +kernel
theorem dksX4_namesByBoth_1 : cX4_namesByBoth.data.toList.drop 24 = dktX4_namesByBoth_1 := dk_seg dksX4_namesByBoth_0 24 rfl rfl
theorem dksX4_namesByBoth_2 : cX4_namesByBoth.data.toList.drop 48 = dktX4_namesByBoth_2 := dk_seg dksX4_namesByBoth_1 24 rfl rfl
theorem dksX4_namesByBoth_3 : cX4_namesByBoth.data.toList.drop 71 = dktX4_namesByBoth_3 := dk_seg dksX4_namesByBoth_2 23 rfl rfl
theorem dksX4_namesByBoth_4 : cX4_namesByBoth.data.toList.drop 95 = dktX4_namesByBoth_4 := dk_seg dksX4_namesByBoth_3 24 rfl rfl
theorem dX4_namesByBoth_0 : decode cX4_namesByBoth 0 = .ok (.aload_n 0, 1) := dk_42 (dk_at dksX4_namesByBoth_0 0 rfl rfl)
theorem dX4_namesByBoth_1 : decode cX4_namesByBoth 1 = .ok (.iload_n 1, 1) := dk_27 (dk_at dksX4_namesByBoth_0 1 rfl rfl)
theorem dX4_namesByBoth_2 : decode cX4_namesByBoth 2 = .ok (.iconst 0, 1) := dk_3 (dk_at dksX4_namesByBoth_0 2 rfl rfl)
theorem dX4_namesByBoth_3 : decode cX4_namesByBoth 3 = .ok (.invokevirtual 482, 3) := dk_182 1 226 (dk_at dksX4_namesByBoth_0 3 rfl rfl)
theorem dX4_namesByBoth_6 : decode cX4_namesByBoth 6 = .ok (.aload_n 0, 1) := dk_42 (dk_at dksX4_namesByBoth_0 6 rfl rfl)
theorem dX4_namesByBoth_7 : decode cX4_namesByBoth 7 = .ok (.getfield 111, 3) := dk_180 0 111 (dk_at dksX4_namesByBoth_0 7 rfl rfl)
theorem dX4_namesByBoth_10 : decode cX4_namesByBoth 10 = .ok (.iconst 1, 1) := dk_4 (dk_at dksX4_namesByBoth_0 10 rfl rfl)
theorem dX4_namesByBoth_11 : decode cX4_namesByBoth 11 = .ok (.aload_n 0, 1) := dk_42 (dk_at dksX4_namesByBoth_0 11 rfl rfl)
theorem dX4_namesByBoth_12 : decode cX4_namesByBoth 12 = .ok (.getfield 44, 3) := dk_180 0 44 (dk_at dksX4_namesByBoth_0 12 rfl rfl)
theorem dX4_namesByBoth_15 : decode cX4_namesByBoth 15 = .ok (.iload_n 1, 1) := dk_27 (dk_at dksX4_namesByBoth_0 15 rfl rfl)
theorem dX4_namesByBoth_16 : decode cX4_namesByBoth 16 = .ok (.iaload, 1) := dk_46 (dk_at dksX4_namesByBoth_0 16 rfl rfl)
theorem dX4_namesByBoth_17 : decode cX4_namesByBoth 17 = .ok (.aload_n 0, 1) := dk_42 (dk_at dksX4_namesByBoth_0 17 rfl rfl)
theorem dX4_namesByBoth_18 : decode cX4_namesByBoth 18 = .ok (.getfield 41, 3) := dk_180 0 41 (dk_at dksX4_namesByBoth_0 18 rfl rfl)
theorem dX4_namesByBoth_21 : decode cX4_namesByBoth 21 = .ok (.iload_n 1, 1) := dk_27 (dk_at dksX4_namesByBoth_0 21 rfl rfl)
theorem dX4_namesByBoth_22 : decode cX4_namesByBoth 22 = .ok (.iaload, 1) := dk_46 (dk_at dksX4_namesByBoth_0 22 rfl rfl)
theorem dX4_namesByBoth_23 : decode cX4_namesByBoth 23 = .ok (.isub, 1) := dk_100 (dk_at dksX4_namesByBoth_0 23 rfl rfl)
theorem dX4_namesByBoth_24 : decode cX4_namesByBoth 24 = .ok (.i2l, 1) := dk_133 (dk_at dksX4_namesByBoth_1 0 rfl rfl)
theorem dX4_namesByBoth_25 : decode cX4_namesByBoth 25 = .ok (.lastore, 1) := dk_80 (dk_at dksX4_namesByBoth_1 1 rfl rfl)
theorem dX4_namesByBoth_26 : decode cX4_namesByBoth 26 = .ok (.aload_n 0, 1) := dk_42 (dk_at dksX4_namesByBoth_1 2 rfl rfl)
theorem dX4_namesByBoth_27 : decode cX4_namesByBoth 27 = .ok (.getfield 111, 3) := dk_180 0 111 (dk_at dksX4_namesByBoth_1 3 rfl rfl)
theorem dX4_namesByBoth_30 : decode cX4_namesByBoth 30 = .ok (.iconst 2, 1) := dk_5 (dk_at dksX4_namesByBoth_1 6 rfl rfl)
theorem dX4_namesByBoth_31 : decode cX4_namesByBoth 31 = .ok (.aload_n 0, 1) := dk_42 (dk_at dksX4_namesByBoth_1 7 rfl rfl)
theorem dX4_namesByBoth_32 : decode cX4_namesByBoth 32 = .ok (.iload_n 1, 1) := dk_27 (dk_at dksX4_namesByBoth_1 8 rfl rfl)
theorem dX4_namesByBoth_33 : decode cX4_namesByBoth 33 = .ok (.aload_n 0, 1) := dk_42 (dk_at dksX4_namesByBoth_1 9 rfl rfl)
theorem dX4_namesByBoth_34 : decode cX4_namesByBoth 34 = .ok (.getfield 44, 3) := dk_180 0 44 (dk_at dksX4_namesByBoth_1 10 rfl rfl)
theorem dX4_namesByBoth_37 : decode cX4_namesByBoth 37 = .ok (.iload_n 1, 1) := dk_27 (dk_at dksX4_namesByBoth_1 13 rfl rfl)
theorem dX4_namesByBoth_38 : decode cX4_namesByBoth 38 = .ok (.iaload, 1) := dk_46 (dk_at dksX4_namesByBoth_1 14 rfl rfl)
theorem dX4_namesByBoth_39 : decode cX4_namesByBoth 39 = .ok (.invokevirtual 447, 3) := dk_182 1 191 (dk_at dksX4_namesByBoth_1 15 rfl rfl)
theorem dX4_namesByBoth_42 : decode cX4_namesByBoth 42 = .ok (.i2l, 1) := dk_133 (dk_at dksX4_namesByBoth_1 18 rfl rfl)
theorem dX4_namesByBoth_43 : decode cX4_namesByBoth 43 = .ok (.lastore, 1) := dk_80 (dk_at dksX4_namesByBoth_1 19 rfl rfl)
theorem dX4_namesByBoth_44 : decode cX4_namesByBoth 44 = .ok (.iconst 0, 1) := dk_3 (dk_at dksX4_namesByBoth_1 20 rfl rfl)
theorem dX4_namesByBoth_45 : decode cX4_namesByBoth 45 = .ok (.istore_n 2, 1) := dk_61 (dk_at dksX4_namesByBoth_1 21 rfl rfl)
theorem dX4_namesByBoth_46 : decode cX4_namesByBoth 46 = .ok (.iload_n 2, 1) := dk_28 (dk_at dksX4_namesByBoth_1 22 rfl rfl)
theorem dX4_namesByBoth_47 : decode cX4_namesByBoth 47 = .ok (.aload_n 0, 1) := dk_42 (dk_at dksX4_namesByBoth_1 23 rfl rfl)
theorem dX4_namesByBoth_48 : decode cX4_namesByBoth 48 = .ok (.getfield 201, 3) := dk_180 0 201 (dk_at dksX4_namesByBoth_2 0 rfl rfl)
theorem dX4_namesByBoth_51 : decode cX4_namesByBoth 51 = .ok (.if_icmp .ge 57, 3) := dk_162 0 57 (dk_at dksX4_namesByBoth_2 3 rfl rfl)
theorem dX4_namesByBoth_54 : decode cX4_namesByBoth 54 = .ok (.aload_n 0, 1) := dk_42 (dk_at dksX4_namesByBoth_2 6 rfl rfl)
theorem dX4_namesByBoth_55 : decode cX4_namesByBoth 55 = .ok (.getfield 66, 3) := dk_180 0 66 (dk_at dksX4_namesByBoth_2 7 rfl rfl)
theorem dX4_namesByBoth_58 : decode cX4_namesByBoth 58 = .ok (.iload_n 2, 1) := dk_28 (dk_at dksX4_namesByBoth_2 10 rfl rfl)
theorem dX4_namesByBoth_59 : decode cX4_namesByBoth 59 = .ok (.iaload, 1) := dk_46 (dk_at dksX4_namesByBoth_2 11 rfl rfl)
theorem dX4_namesByBoth_60 : decode cX4_namesByBoth 60 = .ok (.iload_n 1, 1) := dk_27 (dk_at dksX4_namesByBoth_2 12 rfl rfl)
theorem dX4_namesByBoth_61 : decode cX4_namesByBoth 61 = .ok (.if_icmp .eq 6, 3) := dk_159 0 6 (dk_at dksX4_namesByBoth_2 13 rfl rfl)
theorem dX4_namesByBoth_64 : decode cX4_namesByBoth 64 = .ok (.goto 38, 3) := dk_167 0 38 (dk_at dksX4_namesByBoth_2 16 rfl rfl)
theorem dX4_namesByBoth_67 : decode cX4_namesByBoth 67 = .ok (.aload_n 0, 1) := dk_42 (dk_at dksX4_namesByBoth_2 19 rfl rfl)
theorem dX4_namesByBoth_68 : decode cX4_namesByBoth 68 = .ok (.getfield 111, 3) := dk_180 0 111 (dk_at dksX4_namesByBoth_2 20 rfl rfl)
theorem dX4_namesByBoth_71 : decode cX4_namesByBoth 71 = .ok (.bipush 8, 2) := dk_16 8 (dk_at dksX4_namesByBoth_3 0 rfl rfl)
theorem dX4_namesByBoth_73 : decode cX4_namesByBoth 73 = .ok (.dup2, 1) := dk_92 (dk_at dksX4_namesByBoth_3 2 rfl rfl)
theorem dX4_namesByBoth_74 : decode cX4_namesByBoth 74 = .ok (.laload, 1) := dk_47 (dk_at dksX4_namesByBoth_3 3 rfl rfl)
theorem dX4_namesByBoth_75 : decode cX4_namesByBoth 75 = .ok (.aload_n 0, 1) := dk_42 (dk_at dksX4_namesByBoth_3 4 rfl rfl)
theorem dX4_namesByBoth_76 : decode cX4_namesByBoth 76 = .ok (.iload_n 2, 1) := dk_28 (dk_at dksX4_namesByBoth_3 5 rfl rfl)
theorem dX4_namesByBoth_77 : decode cX4_namesByBoth 77 = .ok (.invokevirtual 389, 3) := dk_182 1 133 (dk_at dksX4_namesByBoth_3 6 rfl rfl)
theorem dX4_namesByBoth_80 : decode cX4_namesByBoth 80 = .ok (.iconst 1, 1) := dk_4 (dk_at dksX4_namesByBoth_3 9 rfl rfl)
theorem dX4_namesByBoth_81 : decode cX4_namesByBoth 81 = .ok (.if_icmp .le 7, 3) := dk_164 0 7 (dk_at dksX4_namesByBoth_3 10 rfl rfl)
theorem dX4_namesByBoth_84 : decode cX4_namesByBoth 84 = .ok (.lconst 1, 1) := dk_10 (dk_at dksX4_namesByBoth_3 13 rfl rfl)
theorem dX4_namesByBoth_85 : decode cX4_namesByBoth 85 = .ok (.goto 4, 3) := dk_167 0 4 (dk_at dksX4_namesByBoth_3 14 rfl rfl)
theorem dX4_namesByBoth_88 : decode cX4_namesByBoth 88 = .ok (.lconst 0, 1) := dk_9 (dk_at dksX4_namesByBoth_3 17 rfl rfl)
theorem dX4_namesByBoth_89 : decode cX4_namesByBoth 89 = .ok (.ladd, 1) := dk_97 (dk_at dksX4_namesByBoth_3 18 rfl rfl)
theorem dX4_namesByBoth_90 : decode cX4_namesByBoth 90 = .ok (.lastore, 1) := dk_80 (dk_at dksX4_namesByBoth_3 19 rfl rfl)
theorem dX4_namesByBoth_91 : decode cX4_namesByBoth 91 = .ok (.aload_n 0, 1) := dk_42 (dk_at dksX4_namesByBoth_3 20 rfl rfl)
theorem dX4_namesByBoth_92 : decode cX4_namesByBoth 92 = .ok (.getfield 111, 3) := dk_180 0 111 (dk_at dksX4_namesByBoth_3 21 rfl rfl)
theorem dX4_namesByBoth_95 : decode cX4_namesByBoth 95 = .ok (.bipush 9, 2) := dk_16 9 (dk_at dksX4_namesByBoth_4 0 rfl rfl)
theorem dX4_namesByBoth_97 : decode cX4_namesByBoth 97 = .ok (.dup2, 1) := dk_92 (dk_at dksX4_namesByBoth_4 2 rfl rfl)
theorem dX4_namesByBoth_98 : decode cX4_namesByBoth 98 = .ok (.laload, 1) := dk_47 (dk_at dksX4_namesByBoth_4 3 rfl rfl)
theorem dX4_namesByBoth_99 : decode cX4_namesByBoth 99 = .ok (.lconst 1, 1) := dk_10 (dk_at dksX4_namesByBoth_4 4 rfl rfl)
theorem dX4_namesByBoth_100 : decode cX4_namesByBoth 100 = .ok (.ladd, 1) := dk_97 (dk_at dksX4_namesByBoth_4 5 rfl rfl)
theorem dX4_namesByBoth_101 : decode cX4_namesByBoth 101 = .ok (.lastore, 1) := dk_80 (dk_at dksX4_namesByBoth_4 6 rfl rfl)
theorem dX4_namesByBoth_102 : decode cX4_namesByBoth 102 = .ok (.iinc 2 1, 3) := dk_132 2 1 (dk_at dksX4_namesByBoth_4 7 rfl rfl)
theorem dX4_namesByBoth_105 : decode cX4_namesByBoth 105 = .ok (.goto (-59), 3) := dk_167 255 197 (dk_at dksX4_namesByBoth_4 10 rfl rfl)
theorem dX4_namesByBoth_108 : decode cX4_namesByBoth 108 = .ok (.return_, 1) := dk_177 (dk_at dksX4_namesByBoth_4 13 rfl rfl)
abbrev cX4_namesByTalk : ByteArray := prog_18_method_107_code
def yX4_namesByTalk : MethodName := ⟨RX4, "namesByTalk", "(IZ)V"⟩
def dkwX4_namesByTalk_5 : List UInt8 := [182, 1, 99, 16, 32, 126, 153, 0, 7, 10, 167, 0, 4, 9, 97, 80, 132, 3, 1, 167, 255, 128, 177]
abbrev dktX4_namesByTalk_5 : List UInt8 := dkwX4_namesByTalk_5 ++ []
def dkwX4_namesByTalk_4 : List UInt8 := [153, 0, 7, 8, 167, 0, 5, 16, 6, 92, 47, 10, 97, 80, 42, 180, 0, 111, 16, 7, 92, 47, 42, 29]
abbrev dktX4_namesByTalk_4 : List UInt8 := dkwX4_namesByTalk_4 ++ dktX4_namesByTalk_5
def dkwX4_namesByTalk_3 : List UInt8 := [167, 0, 62, 42, 29, 27, 28, 182, 1, 223, 153, 0, 52, 42, 180, 0, 111, 42, 29, 182, 1, 87]
abbrev dktX4_namesByTalk_3 : List UInt8 := dkwX4_namesByTalk_3 ++ dktX4_namesByTalk_4
def dkwX4_namesByTalk_2 : List UInt8 := [80, 42, 180, 0, 111, 7, 92, 47, 42, 180, 0, 63, 29, 46, 155, 0, 7, 10, 167, 0, 4, 9, 97, 80]
abbrev dktX4_namesByTalk_2 : List UInt8 := dkwX4_namesByTalk_2 ++ dktX4_namesByTalk_3
def dkwX4_namesByTalk_1 : List UInt8 := [154, 0, 6, 167, 0, 107, 42, 180, 0, 50, 29, 51, 154, 0, 39, 42, 180, 0, 111, 6, 92, 47, 10, 97]
abbrev dktX4_namesByTalk_1 : List UInt8 := dkwX4_namesByTalk_1 ++ dktX4_namesByTalk_2
def dkwX4_namesByTalk_0 : List UInt8 := [42, 27, 182, 1, 188, 3, 62, 29, 42, 180, 0, 198, 162, 0, 126, 42, 29, 27, 28, 182, 1, 219]
abbrev dktX4_namesByTalk_0 : List UInt8 := dkwX4_namesByTalk_0 ++ dktX4_namesByTalk_1
theorem dksX4_namesByTalk_0 : cX4_namesByTalk.data.toList.drop 0 = dktX4_namesByTalk_0 := by decide +kernel
theorem dksX4_namesByTalk_1 : cX4_namesByTalk.data.toList.drop 22 = dktX4_namesByTalk_1 := dk_seg dksX4_namesByTalk_0 22 rfl rfl
theorem dksX4_namesByTalk_2 : cX4_namesByTalk.data.toList.drop 46 = dktX4_namesByTalk_2 := dk_seg dksX4_namesByTalk_1 24 rfl rfl
theorem dksX4_namesByTalk_3 : cX4_namesByTalk.data.toList.drop 70 = dktX4_namesByTalk_3 := dk_seg dksX4_namesByTalk_2 24 rfl rfl
theorem dksX4_namesByTalk_4 : cX4_namesByTalk.data.toList.drop 92 = dktX4_namesByTalk_4 := dk_seg dksX4_namesByTalk_3 22 rfl rfl
theorem dksX4_namesByTalk_5 : cX4_namesByTalk.data.toList.drop 116 = dktX4_namesByTalk_5 := dk_seg dksX4_namesByTalk_4 24 rfl rfl
theorem dX4_namesByTalk_0 : decode cX4_namesByTalk 0 = .ok (.aload_n 0, 1) := dk_42 (dk_at dksX4_namesByTalk_0 0 rfl rfl)
theorem dX4_namesByTalk_1 : decode cX4_namesByTalk 1 = .ok (.iload_n 1, 1) := dk_27 (dk_at dksX4_namesByTalk_0 1 rfl rfl)
theorem dX4_namesByTalk_2 : decode cX4_namesByTalk 2 = .ok (.invokevirtual 444, 3) := dk_182 1 188 (dk_at dksX4_namesByTalk_0 2 rfl rfl)
theorem dX4_namesByTalk_5 : decode cX4_namesByTalk 5 = .ok (.iconst 0, 1) := dk_3 (dk_at dksX4_namesByTalk_0 5 rfl rfl)
theorem dX4_namesByTalk_6 : decode cX4_namesByTalk 6 = .ok (.istore_n 3, 1) := dk_62 (dk_at dksX4_namesByTalk_0 6 rfl rfl)
theorem dX4_namesByTalk_7 : decode cX4_namesByTalk 7 = .ok (.iload_n 3, 1) := dk_29 (dk_at dksX4_namesByTalk_0 7 rfl rfl)
theorem dX4_namesByTalk_8 : decode cX4_namesByTalk 8 = .ok (.aload_n 0, 1) := dk_42 (dk_at dksX4_namesByTalk_0 8 rfl rfl)
theorem dX4_namesByTalk_9 : decode cX4_namesByTalk 9 = .ok (.getfield 198, 3) := dk_180 0 198 (dk_at dksX4_namesByTalk_0 9 rfl rfl)
theorem dX4_namesByTalk_12 : decode cX4_namesByTalk 12 = .ok (.if_icmp .ge 126, 3) := dk_162 0 126 (dk_at dksX4_namesByTalk_0 12 rfl rfl)
theorem dX4_namesByTalk_15 : decode cX4_namesByTalk 15 = .ok (.aload_n 0, 1) := dk_42 (dk_at dksX4_namesByTalk_0 15 rfl rfl)
theorem dX4_namesByTalk_16 : decode cX4_namesByTalk 16 = .ok (.iload_n 3, 1) := dk_29 (dk_at dksX4_namesByTalk_0 16 rfl rfl)
theorem dX4_namesByTalk_17 : decode cX4_namesByTalk 17 = .ok (.iload_n 1, 1) := dk_27 (dk_at dksX4_namesByTalk_0 17 rfl rfl)
theorem dX4_namesByTalk_18 : decode cX4_namesByTalk 18 = .ok (.iload_n 2, 1) := dk_28 (dk_at dksX4_namesByTalk_0 18 rfl rfl)
theorem dX4_namesByTalk_19 : decode cX4_namesByTalk 19 = .ok (.invokevirtual 475, 3) := dk_182 1 219 (dk_at dksX4_namesByTalk_0 19 rfl rfl)
theorem dX4_namesByTalk_22 : decode cX4_namesByTalk 22 = .ok (.ifCond .ne 6, 3) := dk_154 0 6 (dk_at dksX4_namesByTalk_1 0 rfl rfl)
theorem dX4_namesByTalk_25 : decode cX4_namesByTalk 25 = .ok (.goto 107, 3) := dk_167 0 107 (dk_at dksX4_namesByTalk_1 3 rfl rfl)
theorem dX4_namesByTalk_28 : decode cX4_namesByTalk 28 = .ok (.aload_n 0, 1) := dk_42 (dk_at dksX4_namesByTalk_1 6 rfl rfl)
theorem dX4_namesByTalk_29 : decode cX4_namesByTalk 29 = .ok (.getfield 50, 3) := dk_180 0 50 (dk_at dksX4_namesByTalk_1 7 rfl rfl)
theorem dX4_namesByTalk_32 : decode cX4_namesByTalk 32 = .ok (.iload_n 3, 1) := dk_29 (dk_at dksX4_namesByTalk_1 10 rfl rfl)
theorem dX4_namesByTalk_33 : decode cX4_namesByTalk 33 = .ok (.baload, 1) := dk_51 (dk_at dksX4_namesByTalk_1 11 rfl rfl)
theorem dX4_namesByTalk_34 : decode cX4_namesByTalk 34 = .ok (.ifCond .ne 39, 3) := dk_154 0 39 (dk_at dksX4_namesByTalk_1 12 rfl rfl)
theorem dX4_namesByTalk_37 : decode cX4_namesByTalk 37 = .ok (.aload_n 0, 1) := dk_42 (dk_at dksX4_namesByTalk_1 15 rfl rfl)
theorem dX4_namesByTalk_38 : decode cX4_namesByTalk 38 = .ok (.getfield 111, 3) := dk_180 0 111 (dk_at dksX4_namesByTalk_1 16 rfl rfl)
theorem dX4_namesByTalk_41 : decode cX4_namesByTalk 41 = .ok (.iconst 3, 1) := dk_6 (dk_at dksX4_namesByTalk_1 19 rfl rfl)
theorem dX4_namesByTalk_42 : decode cX4_namesByTalk 42 = .ok (.dup2, 1) := dk_92 (dk_at dksX4_namesByTalk_1 20 rfl rfl)
theorem dX4_namesByTalk_43 : decode cX4_namesByTalk 43 = .ok (.laload, 1) := dk_47 (dk_at dksX4_namesByTalk_1 21 rfl rfl)
theorem dX4_namesByTalk_44 : decode cX4_namesByTalk 44 = .ok (.lconst 1, 1) := dk_10 (dk_at dksX4_namesByTalk_1 22 rfl rfl)
theorem dX4_namesByTalk_45 : decode cX4_namesByTalk 45 = .ok (.ladd, 1) := dk_97 (dk_at dksX4_namesByTalk_1 23 rfl rfl)
theorem dX4_namesByTalk_46 : decode cX4_namesByTalk 46 = .ok (.lastore, 1) := dk_80 (dk_at dksX4_namesByTalk_2 0 rfl rfl)
theorem dX4_namesByTalk_47 : decode cX4_namesByTalk 47 = .ok (.aload_n 0, 1) := dk_42 (dk_at dksX4_namesByTalk_2 1 rfl rfl)
theorem dX4_namesByTalk_48 : decode cX4_namesByTalk 48 = .ok (.getfield 111, 3) := dk_180 0 111 (dk_at dksX4_namesByTalk_2 2 rfl rfl)
theorem dX4_namesByTalk_51 : decode cX4_namesByTalk 51 = .ok (.iconst 4, 1) := dk_7 (dk_at dksX4_namesByTalk_2 5 rfl rfl)
theorem dX4_namesByTalk_52 : decode cX4_namesByTalk 52 = .ok (.dup2, 1) := dk_92 (dk_at dksX4_namesByTalk_2 6 rfl rfl)
theorem dX4_namesByTalk_53 : decode cX4_namesByTalk 53 = .ok (.laload, 1) := dk_47 (dk_at dksX4_namesByTalk_2 7 rfl rfl)
theorem dX4_namesByTalk_54 : decode cX4_namesByTalk 54 = .ok (.aload_n 0, 1) := dk_42 (dk_at dksX4_namesByTalk_2 8 rfl rfl)
theorem dX4_namesByTalk_55 : decode cX4_namesByTalk 55 = .ok (.getfield 63, 3) := dk_180 0 63 (dk_at dksX4_namesByTalk_2 9 rfl rfl)
theorem dX4_namesByTalk_58 : decode cX4_namesByTalk 58 = .ok (.iload_n 3, 1) := dk_29 (dk_at dksX4_namesByTalk_2 12 rfl rfl)
theorem dX4_namesByTalk_59 : decode cX4_namesByTalk 59 = .ok (.iaload, 1) := dk_46 (dk_at dksX4_namesByTalk_2 13 rfl rfl)
theorem dX4_namesByTalk_60 : decode cX4_namesByTalk 60 = .ok (.ifCond .lt 7, 3) := dk_155 0 7 (dk_at dksX4_namesByTalk_2 14 rfl rfl)
theorem dX4_namesByTalk_63 : decode cX4_namesByTalk 63 = .ok (.lconst 1, 1) := dk_10 (dk_at dksX4_namesByTalk_2 17 rfl rfl)
theorem dX4_namesByTalk_64 : decode cX4_namesByTalk 64 = .ok (.goto 4, 3) := dk_167 0 4 (dk_at dksX4_namesByTalk_2 18 rfl rfl)
theorem dX4_namesByTalk_67 : decode cX4_namesByTalk 67 = .ok (.lconst 0, 1) := dk_9 (dk_at dksX4_namesByTalk_2 21 rfl rfl)
theorem dX4_namesByTalk_68 : decode cX4_namesByTalk 68 = .ok (.ladd, 1) := dk_97 (dk_at dksX4_namesByTalk_2 22 rfl rfl)
theorem dX4_namesByTalk_69 : decode cX4_namesByTalk 69 = .ok (.lastore, 1) := dk_80 (dk_at dksX4_namesByTalk_2 23 rfl rfl)
theorem dX4_namesByTalk_70 : decode cX4_namesByTalk 70 = .ok (.goto 62, 3) := dk_167 0 62 (dk_at dksX4_namesByTalk_3 0 rfl rfl)
theorem dX4_namesByTalk_73 : decode cX4_namesByTalk 73 = .ok (.aload_n 0, 1) := dk_42 (dk_at dksX4_namesByTalk_3 3 rfl rfl)
theorem dX4_namesByTalk_74 : decode cX4_namesByTalk 74 = .ok (.iload_n 3, 1) := dk_29 (dk_at dksX4_namesByTalk_3 4 rfl rfl)
theorem dX4_namesByTalk_75 : decode cX4_namesByTalk 75 = .ok (.iload_n 1, 1) := dk_27 (dk_at dksX4_namesByTalk_3 5 rfl rfl)
theorem dX4_namesByTalk_76 : decode cX4_namesByTalk 76 = .ok (.iload_n 2, 1) := dk_28 (dk_at dksX4_namesByTalk_3 6 rfl rfl)
theorem dX4_namesByTalk_77 : decode cX4_namesByTalk 77 = .ok (.invokevirtual 479, 3) := dk_182 1 223 (dk_at dksX4_namesByTalk_3 7 rfl rfl)
theorem dX4_namesByTalk_80 : decode cX4_namesByTalk 80 = .ok (.ifCond .eq 52, 3) := dk_153 0 52 (dk_at dksX4_namesByTalk_3 10 rfl rfl)
theorem dX4_namesByTalk_83 : decode cX4_namesByTalk 83 = .ok (.aload_n 0, 1) := dk_42 (dk_at dksX4_namesByTalk_3 13 rfl rfl)
theorem dX4_namesByTalk_84 : decode cX4_namesByTalk 84 = .ok (.getfield 111, 3) := dk_180 0 111 (dk_at dksX4_namesByTalk_3 14 rfl rfl)
theorem dX4_namesByTalk_87 : decode cX4_namesByTalk 87 = .ok (.aload_n 0, 1) := dk_42 (dk_at dksX4_namesByTalk_3 17 rfl rfl)
theorem dX4_namesByTalk_88 : decode cX4_namesByTalk 88 = .ok (.iload_n 3, 1) := dk_29 (dk_at dksX4_namesByTalk_3 18 rfl rfl)
theorem dX4_namesByTalk_89 : decode cX4_namesByTalk 89 = .ok (.invokevirtual 343, 3) := dk_182 1 87 (dk_at dksX4_namesByTalk_3 19 rfl rfl)
theorem dX4_namesByTalk_92 : decode cX4_namesByTalk 92 = .ok (.ifCond .eq 7, 3) := dk_153 0 7 (dk_at dksX4_namesByTalk_4 0 rfl rfl)
theorem dX4_namesByTalk_95 : decode cX4_namesByTalk 95 = .ok (.iconst 5, 1) := dk_8 (dk_at dksX4_namesByTalk_4 3 rfl rfl)
theorem dX4_namesByTalk_96 : decode cX4_namesByTalk 96 = .ok (.goto 5, 3) := dk_167 0 5 (dk_at dksX4_namesByTalk_4 4 rfl rfl)
theorem dX4_namesByTalk_99 : decode cX4_namesByTalk 99 = .ok (.bipush 6, 2) := dk_16 6 (dk_at dksX4_namesByTalk_4 7 rfl rfl)
theorem dX4_namesByTalk_101 : decode cX4_namesByTalk 101 = .ok (.dup2, 1) := dk_92 (dk_at dksX4_namesByTalk_4 9 rfl rfl)
theorem dX4_namesByTalk_102 : decode cX4_namesByTalk 102 = .ok (.laload, 1) := dk_47 (dk_at dksX4_namesByTalk_4 10 rfl rfl)
theorem dX4_namesByTalk_103 : decode cX4_namesByTalk 103 = .ok (.lconst 1, 1) := dk_10 (dk_at dksX4_namesByTalk_4 11 rfl rfl)
theorem dX4_namesByTalk_104 : decode cX4_namesByTalk 104 = .ok (.ladd, 1) := dk_97 (dk_at dksX4_namesByTalk_4 12 rfl rfl)
theorem dX4_namesByTalk_105 : decode cX4_namesByTalk 105 = .ok (.lastore, 1) := dk_80 (dk_at dksX4_namesByTalk_4 13 rfl rfl)
theorem dX4_namesByTalk_106 : decode cX4_namesByTalk 106 = .ok (.aload_n 0, 1) := dk_42 (dk_at dksX4_namesByTalk_4 14 rfl rfl)
theorem dX4_namesByTalk_107 : decode cX4_namesByTalk 107 = .ok (.getfield 111, 3) := dk_180 0 111 (dk_at dksX4_namesByTalk_4 15 rfl rfl)
theorem dX4_namesByTalk_110 : decode cX4_namesByTalk 110 = .ok (.bipush 7, 2) := dk_16 7 (dk_at dksX4_namesByTalk_4 18 rfl rfl)
theorem dX4_namesByTalk_112 : decode cX4_namesByTalk 112 = .ok (.dup2, 1) := dk_92 (dk_at dksX4_namesByTalk_4 20 rfl rfl)
theorem dX4_namesByTalk_113 : decode cX4_namesByTalk 113 = .ok (.laload, 1) := dk_47 (dk_at dksX4_namesByTalk_4 21 rfl rfl)
theorem dX4_namesByTalk_114 : decode cX4_namesByTalk 114 = .ok (.aload_n 0, 1) := dk_42 (dk_at dksX4_namesByTalk_4 22 rfl rfl)
theorem dX4_namesByTalk_115 : decode cX4_namesByTalk 115 = .ok (.iload_n 3, 1) := dk_29 (dk_at dksX4_namesByTalk_4 23 rfl rfl)
theorem dX4_namesByTalk_116 : decode cX4_namesByTalk 116 = .ok (.invokevirtual 355, 3) := dk_182 1 99 (dk_at dksX4_namesByTalk_5 0 rfl rfl)
theorem dX4_namesByTalk_119 : decode cX4_namesByTalk 119 = .ok (.bipush 32, 2) := dk_16 32 (dk_at dksX4_namesByTalk_5 3 rfl rfl)
theorem dX4_namesByTalk_121 : decode cX4_namesByTalk 121 = .ok (.iand, 1) := dk_126 (dk_at dksX4_namesByTalk_5 5 rfl rfl)
theorem dX4_namesByTalk_122 : decode cX4_namesByTalk 122 = .ok (.ifCond .eq 7, 3) := dk_153 0 7 (dk_at dksX4_namesByTalk_5 6 rfl rfl)
theorem dX4_namesByTalk_125 : decode cX4_namesByTalk 125 = .ok (.lconst 1, 1) := dk_10 (dk_at dksX4_namesByTalk_5 9 rfl rfl)
theorem dX4_namesByTalk_126 : decode cX4_namesByTalk 126 = .ok (.goto 4, 3) := dk_167 0 4 (dk_at dksX4_namesByTalk_5 10 rfl rfl)
theorem dX4_namesByTalk_129 : decode cX4_namesByTalk 129 = .ok (.lconst 0, 1) := dk_9 (dk_at dksX4_namesByTalk_5 13 rfl rfl)
theorem dX4_namesByTalk_130 : decode cX4_namesByTalk 130 = .ok (.ladd, 1) := dk_97 (dk_at dksX4_namesByTalk_5 14 rfl rfl)
theorem dX4_namesByTalk_131 : decode cX4_namesByTalk 131 = .ok (.lastore, 1) := dk_80 (dk_at dksX4_namesByTalk_5 15 rfl rfl)
theorem dX4_namesByTalk_132 : decode cX4_namesByTalk 132 = .ok (.iinc 3 1, 3) := dk_132 3 1 (dk_at dksX4_namesByTalk_5 16 rfl rfl)
theorem dX4_namesByTalk_135 : decode cX4_namesByTalk 135 = .ok (.goto (-128), 3) := dk_167 255 128 (dk_at dksX4_namesByTalk_5 19 rfl rfl)
theorem dX4_namesByTalk_138 : decode cX4_namesByTalk 138 = .ok (.return_, 1) := dk_177 (dk_at dksX4_namesByTalk_5 22 rfl rfl)
abbrev cX4_isIn1 : ByteArray := prog_18_method_105_code
def yX4_isIn1 : MethodName := ⟨RX4, "isIn1", "(IIZ)Z"⟩
def dkwX4_isIn1_1 : List UInt8 := [182, 1, 154, 153, 0, 7, 4, 167, 0, 4, 3, 172]
abbrev dktX4_isIn1_1 : List UInt8 := dkwX4_isIn1_1 ++ []
def dkwX4_isIn1_0 : List UInt8 := [42, 27, 182, 1, 62, 153, 0, 29, 42, 180, 0, 54, 27, 46, 28, 160, 0, 19, 29, 153, 0, 11, 42, 27]
abbrev dktX4_isIn1_0 : List UInt8 := dkwX4_isIn1_0 ++ dktX4_isIn1_1
theorem dksX4_isIn1_0 : cX4_isIn1.data.toList.drop 0 = dktX4_isIn1_0 := by decide +kernel
theorem dksX4_isIn1_1 : cX4_isIn1.data.toList.drop 24 = dktX4_isIn1_1 := dk_seg dksX4_isIn1_0 24 rfl rfl
theorem dX4_isIn1_0 : decode cX4_isIn1 0 = .ok (.aload_n 0, 1) := dk_42 (dk_at dksX4_isIn1_0 0 rfl rfl)
theorem dX4_isIn1_1 : decode cX4_isIn1 1 = .ok (.iload_n 1, 1) := dk_27 (dk_at dksX4_isIn1_0 1 rfl rfl)
theorem dX4_isIn1_2 : decode cX4_isIn1 2 = .ok (.invokevirtual 318, 3) := dk_182 1 62 (dk_at dksX4_isIn1_0 2 rfl rfl)
theorem dX4_isIn1_5 : decode cX4_isIn1 5 = .ok (.ifCond .eq 29, 3) := dk_153 0 29 (dk_at dksX4_isIn1_0 5 rfl rfl)
theorem dX4_isIn1_8 : decode cX4_isIn1 8 = .ok (.aload_n 0, 1) := dk_42 (dk_at dksX4_isIn1_0 8 rfl rfl)
theorem dX4_isIn1_9 : decode cX4_isIn1 9 = .ok (.getfield 54, 3) := dk_180 0 54 (dk_at dksX4_isIn1_0 9 rfl rfl)
theorem dX4_isIn1_12 : decode cX4_isIn1 12 = .ok (.iload_n 1, 1) := dk_27 (dk_at dksX4_isIn1_0 12 rfl rfl)
theorem dX4_isIn1_13 : decode cX4_isIn1 13 = .ok (.iaload, 1) := dk_46 (dk_at dksX4_isIn1_0 13 rfl rfl)
theorem dX4_isIn1_14 : decode cX4_isIn1 14 = .ok (.iload_n 2, 1) := dk_28 (dk_at dksX4_isIn1_0 14 rfl rfl)
theorem dX4_isIn1_15 : decode cX4_isIn1 15 = .ok (.if_icmp .ne 19, 3) := dk_160 0 19 (dk_at dksX4_isIn1_0 15 rfl rfl)
theorem dX4_isIn1_18 : decode cX4_isIn1 18 = .ok (.iload_n 3, 1) := dk_29 (dk_at dksX4_isIn1_0 18 rfl rfl)
theorem dX4_isIn1_19 : decode cX4_isIn1 19 = .ok (.ifCond .eq 11, 3) := dk_153 0 11 (dk_at dksX4_isIn1_0 19 rfl rfl)
theorem dX4_isIn1_22 : decode cX4_isIn1 22 = .ok (.aload_n 0, 1) := dk_42 (dk_at dksX4_isIn1_0 22 rfl rfl)
theorem dX4_isIn1_23 : decode cX4_isIn1 23 = .ok (.iload_n 1, 1) := dk_27 (dk_at dksX4_isIn1_0 23 rfl rfl)
theorem dX4_isIn1_24 : decode cX4_isIn1 24 = .ok (.invokevirtual 410, 3) := dk_182 1 154 (dk_at dksX4_isIn1_1 0 rfl rfl)
theorem dX4_isIn1_27 : decode cX4_isIn1 27 = .ok (.ifCond .eq 7, 3) := dk_153 0 7 (dk_at dksX4_isIn1_1 3 rfl rfl)
theorem dX4_isIn1_30 : decode cX4_isIn1 30 = .ok (.iconst 1, 1) := dk_4 (dk_at dksX4_isIn1_1 6 rfl rfl)
theorem dX4_isIn1_31 : decode cX4_isIn1 31 = .ok (.goto 4, 3) := dk_167 0 4 (dk_at dksX4_isIn1_1 7 rfl rfl)
theorem dX4_isIn1_34 : decode cX4_isIn1 34 = .ok (.iconst 0, 1) := dk_3 (dk_at dksX4_isIn1_1 10 rfl rfl)
theorem dX4_isIn1_35 : decode cX4_isIn1 35 = .ok (.ireturn, 1) := dk_172 (dk_at dksX4_isIn1_1 11 rfl rfl)
abbrev cX4_isFirstIn : ByteArray := prog_18_method_106_code
def yX4_isFirstIn : MethodName := ⟨RX4, "isFirstIn", "(IIZ)Z"⟩
def dkwX4_isFirstIn_2 : List UInt8 := [132, 4, 1, 167, 255, 208, 4, 172]
abbrev dktX4_isFirstIn_2 : List UInt8 := dkwX4_isFirstIn_2 ++ []
def dkwX4_isFirstIn_1 : List UInt8 := [21, 4, 51, 153, 0, 21, 42, 180, 0, 60, 21, 4, 46, 42, 180, 0, 60, 27, 46, 160, 0, 5, 3, 172]
abbrev dktX4_isFirstIn_1 : List UInt8 := dkwX4_isFirstIn_1 ++ dktX4_isFirstIn_2
def dkwX4_isFirstIn_0 : List UInt8 := [3, 54, 4, 21, 4, 27, 162, 0, 48, 42, 21, 4, 28, 29, 182, 1, 219, 153, 0, 31, 42, 180, 0, 50]
abbrev dktX4_isFirstIn_0 : List UInt8 := dkwX4_isFirstIn_0 ++ dktX4_isFirstIn_1
theorem dksX4_isFirstIn_0 : cX4_isFirstIn.data.toList.drop 0 = dktX4_isFirstIn_0 := by decide +kernel
theorem dksX4_isFirstIn_1 : cX4_isFirstIn.data.toList.drop 24 = dktX4_isFirstIn_1 := dk_seg dksX4_isFirstIn_0 24 rfl rfl
theorem dksX4_isFirstIn_2 : cX4_isFirstIn.data.toList.drop 48 = dktX4_isFirstIn_2 := dk_seg dksX4_isFirstIn_1 24 rfl rfl
theorem dX4_isFirstIn_0 : decode cX4_isFirstIn 0 = .ok (.iconst 0, 1) := dk_3 (dk_at dksX4_isFirstIn_0 0 rfl rfl)
theorem dX4_isFirstIn_1 : decode cX4_isFirstIn 1 = .ok (.istore 4, 2) := dk_54 4 (dk_at dksX4_isFirstIn_0 1 rfl rfl)
theorem dX4_isFirstIn_3 : decode cX4_isFirstIn 3 = .ok (.iload 4, 2) := dk_21 4 (dk_at dksX4_isFirstIn_0 3 rfl rfl)
theorem dX4_isFirstIn_5 : decode cX4_isFirstIn 5 = .ok (.iload_n 1, 1) := dk_27 (dk_at dksX4_isFirstIn_0 5 rfl rfl)
theorem dX4_isFirstIn_6 : decode cX4_isFirstIn 6 = .ok (.if_icmp .ge 48, 3) := dk_162 0 48 (dk_at dksX4_isFirstIn_0 6 rfl rfl)
theorem dX4_isFirstIn_9 : decode cX4_isFirstIn 9 = .ok (.aload_n 0, 1) := dk_42 (dk_at dksX4_isFirstIn_0 9 rfl rfl)
theorem dX4_isFirstIn_10 : decode cX4_isFirstIn 10 = .ok (.iload 4, 2) := dk_21 4 (dk_at dksX4_isFirstIn_0 10 rfl rfl)
theorem dX4_isFirstIn_12 : decode cX4_isFirstIn 12 = .ok (.iload_n 2, 1) := dk_28 (dk_at dksX4_isFirstIn_0 12 rfl rfl)
theorem dX4_isFirstIn_13 : decode cX4_isFirstIn 13 = .ok (.iload_n 3, 1) := dk_29 (dk_at dksX4_isFirstIn_0 13 rfl rfl)
theorem dX4_isFirstIn_14 : decode cX4_isFirstIn 14 = .ok (.invokevirtual 475, 3) := dk_182 1 219 (dk_at dksX4_isFirstIn_0 14 rfl rfl)
theorem dX4_isFirstIn_17 : decode cX4_isFirstIn 17 = .ok (.ifCond .eq 31, 3) := dk_153 0 31 (dk_at dksX4_isFirstIn_0 17 rfl rfl)
theorem dX4_isFirstIn_20 : decode cX4_isFirstIn 20 = .ok (.aload_n 0, 1) := dk_42 (dk_at dksX4_isFirstIn_0 20 rfl rfl)
theorem dX4_isFirstIn_21 : decode cX4_isFirstIn 21 = .ok (.getfield 50, 3) := dk_180 0 50 (dk_at dksX4_isFirstIn_0 21 rfl rfl)
theorem dX4_isFirstIn_24 : decode cX4_isFirstIn 24 = .ok (.iload 4, 2) := dk_21 4 (dk_at dksX4_isFirstIn_1 0 rfl rfl)
theorem dX4_isFirstIn_26 : decode cX4_isFirstIn 26 = .ok (.baload, 1) := dk_51 (dk_at dksX4_isFirstIn_1 2 rfl rfl)
theorem dX4_isFirstIn_27 : decode cX4_isFirstIn 27 = .ok (.ifCond .eq 21, 3) := dk_153 0 21 (dk_at dksX4_isFirstIn_1 3 rfl rfl)
theorem dX4_isFirstIn_30 : decode cX4_isFirstIn 30 = .ok (.aload_n 0, 1) := dk_42 (dk_at dksX4_isFirstIn_1 6 rfl rfl)
theorem dX4_isFirstIn_31 : decode cX4_isFirstIn 31 = .ok (.getfield 60, 3) := dk_180 0 60 (dk_at dksX4_isFirstIn_1 7 rfl rfl)
theorem dX4_isFirstIn_34 : decode cX4_isFirstIn 34 = .ok (.iload 4, 2) := dk_21 4 (dk_at dksX4_isFirstIn_1 10 rfl rfl)
theorem dX4_isFirstIn_36 : decode cX4_isFirstIn 36 = .ok (.iaload, 1) := dk_46 (dk_at dksX4_isFirstIn_1 12 rfl rfl)
theorem dX4_isFirstIn_37 : decode cX4_isFirstIn 37 = .ok (.aload_n 0, 1) := dk_42 (dk_at dksX4_isFirstIn_1 13 rfl rfl)
theorem dX4_isFirstIn_38 : decode cX4_isFirstIn 38 = .ok (.getfield 60, 3) := dk_180 0 60 (dk_at dksX4_isFirstIn_1 14 rfl rfl)
theorem dX4_isFirstIn_41 : decode cX4_isFirstIn 41 = .ok (.iload_n 1, 1) := dk_27 (dk_at dksX4_isFirstIn_1 17 rfl rfl)
theorem dX4_isFirstIn_42 : decode cX4_isFirstIn 42 = .ok (.iaload, 1) := dk_46 (dk_at dksX4_isFirstIn_1 18 rfl rfl)
theorem dX4_isFirstIn_43 : decode cX4_isFirstIn 43 = .ok (.if_icmp .ne 5, 3) := dk_160 0 5 (dk_at dksX4_isFirstIn_1 19 rfl rfl)
theorem dX4_isFirstIn_46 : decode cX4_isFirstIn 46 = .ok (.iconst 0, 1) := dk_3 (dk_at dksX4_isFirstIn_1 22 rfl rfl)
theorem dX4_isFirstIn_47 : decode cX4_isFirstIn 47 = .ok (.ireturn, 1) := dk_172 (dk_at dksX4_isFirstIn_1 23 rfl rfl)
theorem dX4_isFirstIn_48 : decode cX4_isFirstIn 48 = .ok (.iinc 4 1, 3) := dk_132 4 1 (dk_at dksX4_isFirstIn_2 0 rfl rfl)
theorem dX4_isFirstIn_51 : decode cX4_isFirstIn 51 = .ok (.goto (-48), 3) := dk_167 255 208 (dk_at dksX4_isFirstIn_2 3 rfl rfl)
theorem dX4_isFirstIn_54 : decode cX4_isFirstIn 54 = .ok (.iconst 1, 1) := dk_4 (dk_at dksX4_isFirstIn_2 6 rfl rfl)
theorem dX4_isFirstIn_55 : decode cX4_isFirstIn 55 = .ok (.ireturn, 1) := dk_172 (dk_at dksX4_isFirstIn_2 7 rfl rfl)
abbrev cX4_holds : ByteArray := prog_18_method_96_code
def yX4_holds : MethodName := ⟨RX4, "holds", "(I)Z"⟩
def dkwX4_holds_1 : List UInt8 := [9, 148, 153, 0, 7, 4, 167, 0, 4, 3, 172]
abbrev dktX4_holds_1 : List UInt8 := dkwX4_holds_1 ++ []
def dkwX4_holds_0 : List UInt8 := [42, 27, 182, 1, 182, 154, 0, 5, 3, 172, 42, 27, 182, 1, 185, 65, 42, 180, 1, 160, 154, 0, 13, 32]
abbrev dktX4_holds_0 : List UInt8 := dkwX4_holds_0 ++ dktX4_holds_1
theorem dksX4_holds_0 : cX4_holds.data.toList.drop 0 = dktX4_holds_0 := by decide +kernel
theorem dksX4_holds_1 : cX4_holds.data.toList.drop 24 = dktX4_holds_1 := dk_seg dksX4_holds_0 24 rfl rfl
theorem dX4_holds_0 : decode cX4_holds 0 = .ok (.aload_n 0, 1) := dk_42 (dk_at dksX4_holds_0 0 rfl rfl)
theorem dX4_holds_1 : decode cX4_holds 1 = .ok (.iload_n 1, 1) := dk_27 (dk_at dksX4_holds_0 1 rfl rfl)
theorem dX4_holds_2 : decode cX4_holds 2 = .ok (.invokevirtual 438, 3) := dk_182 1 182 (dk_at dksX4_holds_0 2 rfl rfl)
theorem dX4_holds_5 : decode cX4_holds 5 = .ok (.ifCond .ne 5, 3) := dk_154 0 5 (dk_at dksX4_holds_0 5 rfl rfl)
theorem dX4_holds_8 : decode cX4_holds 8 = .ok (.iconst 0, 1) := dk_3 (dk_at dksX4_holds_0 8 rfl rfl)
theorem dX4_holds_9 : decode cX4_holds 9 = .ok (.ireturn, 1) := dk_172 (dk_at dksX4_holds_0 9 rfl rfl)
theorem dX4_holds_10 : decode cX4_holds 10 = .ok (.aload_n 0, 1) := dk_42 (dk_at dksX4_holds_0 10 rfl rfl)
theorem dX4_holds_11 : decode cX4_holds 11 = .ok (.iload_n 1, 1) := dk_27 (dk_at dksX4_holds_0 11 rfl rfl)
theorem dX4_holds_12 : decode cX4_holds 12 = .ok (.invokevirtual 441, 3) := dk_182 1 185 (dk_at dksX4_holds_0 12 rfl rfl)
theorem dX4_holds_15 : decode cX4_holds 15 = .ok (.lstore_n 2, 1) := dk_65 (dk_at dksX4_holds_0 15 rfl rfl)
theorem dX4_holds_16 : decode cX4_holds 16 = .ok (.aload_n 0, 1) := dk_42 (dk_at dksX4_holds_0 16 rfl rfl)
theorem dX4_holds_17 : decode cX4_holds 17 = .ok (.getfield 416, 3) := dk_180 1 160 (dk_at dksX4_holds_0 17 rfl rfl)
theorem dX4_holds_20 : decode cX4_holds 20 = .ok (.ifCond .ne 13, 3) := dk_154 0 13 (dk_at dksX4_holds_0 20 rfl rfl)
theorem dX4_holds_23 : decode cX4_holds 23 = .ok (.lload_n 2, 1) := dk_32 (dk_at dksX4_holds_0 23 rfl rfl)
theorem dX4_holds_24 : decode cX4_holds 24 = .ok (.lconst 0, 1) := dk_9 (dk_at dksX4_holds_1 0 rfl rfl)
theorem dX4_holds_25 : decode cX4_holds 25 = .ok (.lcmp, 1) := dk_148 (dk_at dksX4_holds_1 1 rfl rfl)
theorem dX4_holds_26 : decode cX4_holds 26 = .ok (.ifCond .eq 7, 3) := dk_153 0 7 (dk_at dksX4_holds_1 2 rfl rfl)
theorem dX4_holds_29 : decode cX4_holds 29 = .ok (.iconst 1, 1) := dk_4 (dk_at dksX4_holds_1 5 rfl rfl)
theorem dX4_holds_30 : decode cX4_holds 30 = .ok (.goto 4, 3) := dk_167 0 4 (dk_at dksX4_holds_1 6 rfl rfl)
theorem dX4_holds_33 : decode cX4_holds 33 = .ok (.iconst 0, 1) := dk_3 (dk_at dksX4_holds_1 9 rfl rfl)
theorem dX4_holds_34 : decode cX4_holds 34 = .ok (.ireturn, 1) := dk_172 (dk_at dksX4_holds_1 10 rfl rfl)
abbrev cX4_jury : ByteArray := prog_18_method_113_code
def yX4_jury : MethodName := ⟨RX4, "jury", "(II)I"⟩
def dkwX4_jury_1 : List UInt8 := [167, 0, 17, 42, 27, 28, 182, 1, 241, 153, 0, 7, 4, 167, 0, 4, 3, 172]
abbrev dktX4_jury_1 : List UInt8 := dkwX4_jury_1 ++ []
def dkwX4_jury_0 : List UInt8 := [42, 3, 181, 0, 124, 42, 27, 182, 1, 59, 153, 0, 12, 28, 3, 5, 184, 1, 68, 154, 0, 7, 2]
abbrev dktX4_jury_0 : List UInt8 := dkwX4_jury_0 ++ dktX4_jury_1
theorem dksX4_jury_0 : cX4_jury.data.toList.drop 0 = dktX4_jury_0 := by decide +kernel
theorem dksX4_jury_1 : cX4_jury.data.toList.drop 23 = dktX4_jury_1 := dk_seg dksX4_jury_0 23 rfl rfl
theorem dX4_jury_0 : decode cX4_jury 0 = .ok (.aload_n 0, 1) := dk_42 (dk_at dksX4_jury_0 0 rfl rfl)
theorem dX4_jury_1 : decode cX4_jury 1 = .ok (.iconst 0, 1) := dk_3 (dk_at dksX4_jury_0 1 rfl rfl)
theorem dX4_jury_2 : decode cX4_jury 2 = .ok (.putfield 124, 3) := dk_181 0 124 (dk_at dksX4_jury_0 2 rfl rfl)
theorem dX4_jury_5 : decode cX4_jury 5 = .ok (.aload_n 0, 1) := dk_42 (dk_at dksX4_jury_0 5 rfl rfl)
theorem dX4_jury_6 : decode cX4_jury 6 = .ok (.iload_n 1, 1) := dk_27 (dk_at dksX4_jury_0 6 rfl rfl)
theorem dX4_jury_7 : decode cX4_jury 7 = .ok (.invokevirtual 315, 3) := dk_182 1 59 (dk_at dksX4_jury_0 7 rfl rfl)
theorem dX4_jury_10 : decode cX4_jury 10 = .ok (.ifCond .eq 12, 3) := dk_153 0 12 (dk_at dksX4_jury_0 10 rfl rfl)
theorem dX4_jury_13 : decode cX4_jury 13 = .ok (.iload_n 2, 1) := dk_28 (dk_at dksX4_jury_0 13 rfl rfl)
theorem dX4_jury_14 : decode cX4_jury 14 = .ok (.iconst 0, 1) := dk_3 (dk_at dksX4_jury_0 14 rfl rfl)
theorem dX4_jury_15 : decode cX4_jury 15 = .ok (.iconst 2, 1) := dk_5 (dk_at dksX4_jury_0 15 rfl rfl)
theorem dX4_jury_16 : decode cX4_jury 16 = .ok (.invokestatic 324, 3) := dk_184 1 68 (dk_at dksX4_jury_0 16 rfl rfl)
theorem dX4_jury_19 : decode cX4_jury 19 = .ok (.ifCond .ne 7, 3) := dk_154 0 7 (dk_at dksX4_jury_0 19 rfl rfl)
theorem dX4_jury_22 : decode cX4_jury 22 = .ok (.iconst (-1), 1) := dk_2 (dk_at dksX4_jury_0 22 rfl rfl)
theorem dX4_jury_23 : decode cX4_jury 23 = .ok (.goto 17, 3) := dk_167 0 17 (dk_at dksX4_jury_1 0 rfl rfl)
theorem dX4_jury_26 : decode cX4_jury 26 = .ok (.aload_n 0, 1) := dk_42 (dk_at dksX4_jury_1 3 rfl rfl)
theorem dX4_jury_27 : decode cX4_jury 27 = .ok (.iload_n 1, 1) := dk_27 (dk_at dksX4_jury_1 4 rfl rfl)
theorem dX4_jury_28 : decode cX4_jury 28 = .ok (.iload_n 2, 1) := dk_28 (dk_at dksX4_jury_1 5 rfl rfl)
theorem dX4_jury_29 : decode cX4_jury 29 = .ok (.invokevirtual 497, 3) := dk_182 1 241 (dk_at dksX4_jury_1 6 rfl rfl)
theorem dX4_jury_32 : decode cX4_jury 32 = .ok (.ifCond .eq 7, 3) := dk_153 0 7 (dk_at dksX4_jury_1 9 rfl rfl)
theorem dX4_jury_35 : decode cX4_jury 35 = .ok (.iconst 1, 1) := dk_4 (dk_at dksX4_jury_1 12 rfl rfl)
theorem dX4_jury_36 : decode cX4_jury 36 = .ok (.goto 4, 3) := dk_167 0 4 (dk_at dksX4_jury_1 13 rfl rfl)
theorem dX4_jury_39 : decode cX4_jury 39 = .ok (.iconst 0, 1) := dk_3 (dk_at dksX4_jury_1 16 rfl rfl)
theorem dX4_jury_40 : decode cX4_jury 40 = .ok (.ireturn, 1) := dk_172 (dk_at dksX4_jury_1 17 rfl rfl)
abbrev cX4_finds : ByteArray := prog_18_method_110_code
def yX4_finds : MethodName := ⟨RX4, "finds", "(II)Z"⟩
def dkwX4_finds_2 : List UInt8 := [46, 100, 133, 167, 0, 4, 9, 80, 167, 0, 8, 42, 27, 182, 1, 232, 42, 5, 182, 1, 235, 172]
abbrev dktX4_finds_2 : List UInt8 := dkwX4_finds_2 ++ []
def dkwX4_finds_1 : List UInt8 := [180, 0, 111, 4, 42, 180, 0, 47, 27, 46, 155, 0, 20, 42, 180, 0, 44, 27, 46, 42, 180, 0, 47, 27]
abbrev dktX4_finds_1 : List UInt8 := dkwX4_finds_1 ++ dktX4_finds_2
def dkwX4_finds_0 : List UInt8 := [28, 154, 0, 11, 42, 27, 182, 1, 229, 167, 0, 55, 28, 4, 160, 0, 45, 42, 27, 4, 182, 1, 226, 42]
abbrev dktX4_finds_0 : List UInt8 := dkwX4_finds_0 ++ dktX4_finds_1
theorem dksX4_finds_0 : cX4_finds.data.toList.drop 0 = dktX4_finds_0 := by decide +kernel
theorem dksX4_finds_1 : cX4_finds.data.toList.drop 24 = dktX4_finds_1 := dk_seg dksX4_finds_0 24 rfl rfl
theorem dksX4_finds_2 : cX4_finds.data.toList.drop 48 = dktX4_finds_2 := dk_seg dksX4_finds_1 24 rfl rfl
theorem dX4_finds_0 : decode cX4_finds 0 = .ok (.iload_n 2, 1) := dk_28 (dk_at dksX4_finds_0 0 rfl rfl)
theorem dX4_finds_1 : decode cX4_finds 1 = .ok (.ifCond .ne 11, 3) := dk_154 0 11 (dk_at dksX4_finds_0 1 rfl rfl)
theorem dX4_finds_4 : decode cX4_finds 4 = .ok (.aload_n 0, 1) := dk_42 (dk_at dksX4_finds_0 4 rfl rfl)
theorem dX4_finds_5 : decode cX4_finds 5 = .ok (.iload_n 1, 1) := dk_27 (dk_at dksX4_finds_0 5 rfl rfl)
theorem dX4_finds_6 : decode cX4_finds 6 = .ok (.invokevirtual 485, 3) := dk_182 1 229 (dk_at dksX4_finds_0 6 rfl rfl)
theorem dX4_finds_9 : decode cX4_finds 9 = .ok (.goto 55, 3) := dk_167 0 55 (dk_at dksX4_finds_0 9 rfl rfl)
theorem dX4_finds_12 : decode cX4_finds 12 = .ok (.iload_n 2, 1) := dk_28 (dk_at dksX4_finds_0 12 rfl rfl)
theorem dX4_finds_13 : decode cX4_finds 13 = .ok (.iconst 1, 1) := dk_4 (dk_at dksX4_finds_0 13 rfl rfl)
theorem dX4_finds_14 : decode cX4_finds 14 = .ok (.if_icmp .ne 45, 3) := dk_160 0 45 (dk_at dksX4_finds_0 14 rfl rfl)
theorem dX4_finds_17 : decode cX4_finds 17 = .ok (.aload_n 0, 1) := dk_42 (dk_at dksX4_finds_0 17 rfl rfl)
theorem dX4_finds_18 : decode cX4_finds 18 = .ok (.iload_n 1, 1) := dk_27 (dk_at dksX4_finds_0 18 rfl rfl)
theorem dX4_finds_19 : decode cX4_finds 19 = .ok (.iconst 1, 1) := dk_4 (dk_at dksX4_finds_0 19 rfl rfl)
theorem dX4_finds_20 : decode cX4_finds 20 = .ok (.invokevirtual 482, 3) := dk_182 1 226 (dk_at dksX4_finds_0 20 rfl rfl)
theorem dX4_finds_23 : decode cX4_finds 23 = .ok (.aload_n 0, 1) := dk_42 (dk_at dksX4_finds_0 23 rfl rfl)
theorem dX4_finds_24 : decode cX4_finds 24 = .ok (.getfield 111, 3) := dk_180 0 111 (dk_at dksX4_finds_1 0 rfl rfl)
theorem dX4_finds_27 : decode cX4_finds 27 = .ok (.iconst 1, 1) := dk_4 (dk_at dksX4_finds_1 3 rfl rfl)
theorem dX4_finds_28 : decode cX4_finds 28 = .ok (.aload_n 0, 1) := dk_42 (dk_at dksX4_finds_1 4 rfl rfl)
theorem dX4_finds_29 : decode cX4_finds 29 = .ok (.getfield 47, 3) := dk_180 0 47 (dk_at dksX4_finds_1 5 rfl rfl)
theorem dX4_finds_32 : decode cX4_finds 32 = .ok (.iload_n 1, 1) := dk_27 (dk_at dksX4_finds_1 8 rfl rfl)
theorem dX4_finds_33 : decode cX4_finds 33 = .ok (.iaload, 1) := dk_46 (dk_at dksX4_finds_1 9 rfl rfl)
theorem dX4_finds_34 : decode cX4_finds 34 = .ok (.ifCond .lt 20, 3) := dk_155 0 20 (dk_at dksX4_finds_1 10 rfl rfl)
theorem dX4_finds_37 : decode cX4_finds 37 = .ok (.aload_n 0, 1) := dk_42 (dk_at dksX4_finds_1 13 rfl rfl)
theorem dX4_finds_38 : decode cX4_finds 38 = .ok (.getfield 44, 3) := dk_180 0 44 (dk_at dksX4_finds_1 14 rfl rfl)
theorem dX4_finds_41 : decode cX4_finds 41 = .ok (.iload_n 1, 1) := dk_27 (dk_at dksX4_finds_1 17 rfl rfl)
theorem dX4_finds_42 : decode cX4_finds 42 = .ok (.iaload, 1) := dk_46 (dk_at dksX4_finds_1 18 rfl rfl)
theorem dX4_finds_43 : decode cX4_finds 43 = .ok (.aload_n 0, 1) := dk_42 (dk_at dksX4_finds_1 19 rfl rfl)
theorem dX4_finds_44 : decode cX4_finds 44 = .ok (.getfield 47, 3) := dk_180 0 47 (dk_at dksX4_finds_1 20 rfl rfl)
theorem dX4_finds_47 : decode cX4_finds 47 = .ok (.iload_n 1, 1) := dk_27 (dk_at dksX4_finds_1 23 rfl rfl)
theorem dX4_finds_48 : decode cX4_finds 48 = .ok (.iaload, 1) := dk_46 (dk_at dksX4_finds_2 0 rfl rfl)
theorem dX4_finds_49 : decode cX4_finds 49 = .ok (.isub, 1) := dk_100 (dk_at dksX4_finds_2 1 rfl rfl)
theorem dX4_finds_50 : decode cX4_finds 50 = .ok (.i2l, 1) := dk_133 (dk_at dksX4_finds_2 2 rfl rfl)
theorem dX4_finds_51 : decode cX4_finds 51 = .ok (.goto 4, 3) := dk_167 0 4 (dk_at dksX4_finds_2 3 rfl rfl)
theorem dX4_finds_54 : decode cX4_finds 54 = .ok (.lconst 0, 1) := dk_9 (dk_at dksX4_finds_2 6 rfl rfl)
theorem dX4_finds_55 : decode cX4_finds 55 = .ok (.lastore, 1) := dk_80 (dk_at dksX4_finds_2 7 rfl rfl)
theorem dX4_finds_56 : decode cX4_finds 56 = .ok (.goto 8, 3) := dk_167 0 8 (dk_at dksX4_finds_2 8 rfl rfl)
theorem dX4_finds_59 : decode cX4_finds 59 = .ok (.aload_n 0, 1) := dk_42 (dk_at dksX4_finds_2 11 rfl rfl)
theorem dX4_finds_60 : decode cX4_finds 60 = .ok (.iload_n 1, 1) := dk_27 (dk_at dksX4_finds_2 12 rfl rfl)
theorem dX4_finds_61 : decode cX4_finds 61 = .ok (.invokevirtual 488, 3) := dk_182 1 232 (dk_at dksX4_finds_2 13 rfl rfl)
theorem dX4_finds_64 : decode cX4_finds 64 = .ok (.aload_n 0, 1) := dk_42 (dk_at dksX4_finds_2 16 rfl rfl)
theorem dX4_finds_65 : decode cX4_finds 65 = .ok (.iconst 2, 1) := dk_5 (dk_at dksX4_finds_2 17 rfl rfl)
theorem dX4_finds_66 : decode cX4_finds 66 = .ok (.invokevirtual 491, 3) := dk_182 1 235 (dk_at dksX4_finds_2 18 rfl rfl)
theorem dX4_finds_69 : decode cX4_finds 69 = .ok (.ireturn, 1) := dk_172 (dk_at dksX4_finds_2 21 rfl rfl)
abbrev cX4_namesByPage : ByteArray := prog_18_method_109_code
def yX4_namesByPage : MethodName := ⟨RX4, "namesByPage", "(I)V"⟩
def dkwX4_namesByPage_3 : List UInt8 := [160, 0, 7, 8, 167, 0, 5, 16, 6, 92, 47, 10, 97, 80, 132, 2, 1, 167, 255, 178, 177]
abbrev dktX4_namesByPage_3 : List UInt8 := dkwX4_namesByPage_3 ++ []
def dkwX4_namesByPage_2 : List UInt8 := [153, 0, 38, 42, 180, 0, 111, 42, 180, 0, 72, 28, 46, 42, 180, 0, 26, 42, 180, 0, 69, 28, 46, 46]
abbrev dktX4_namesByPage_2 : List UInt8 := dkwX4_namesByPage_2 ++ dktX4_namesByPage_3
def dkwX4_namesByPage_1 : List UInt8 := [159, 0, 6, 167, 0, 57, 42, 180, 0, 111, 16, 9, 92, 47, 10, 97, 80, 42, 28, 182, 1, 120]
abbrev dktX4_namesByPage_1 : List UInt8 := dkwX4_namesByPage_1 ++ dktX4_namesByPage_2
def dkwX4_namesByPage_0 : List UInt8 := [42, 27, 182, 1, 188, 3, 61, 28, 42, 180, 0, 201, 162, 0, 76, 42, 180, 0, 66, 28, 46, 27]
abbrev dktX4_namesByPage_0 : List UInt8 := dkwX4_namesByPage_0 ++ dktX4_namesByPage_1
theorem dksX4_namesByPage_0 : cX4_namesByPage.data.toList.drop 0 = dktX4_namesByPage_0 := by decide +kernel
theorem dksX4_namesByPage_1 : cX4_namesByPage.data.toList.drop 22 = dktX4_namesByPage_1 := dk_seg dksX4_namesByPage_0 22 rfl rfl
theorem dksX4_namesByPage_2 : cX4_namesByPage.data.toList.drop 44 = dktX4_namesByPage_2 := dk_seg dksX4_namesByPage_1 22 rfl rfl
theorem dksX4_namesByPage_3 : cX4_namesByPage.data.toList.drop 68 = dktX4_namesByPage_3 := dk_seg dksX4_namesByPage_2 24 rfl rfl
theorem dX4_namesByPage_0 : decode cX4_namesByPage 0 = .ok (.aload_n 0, 1) := dk_42 (dk_at dksX4_namesByPage_0 0 rfl rfl)
theorem dX4_namesByPage_1 : decode cX4_namesByPage 1 = .ok (.iload_n 1, 1) := dk_27 (dk_at dksX4_namesByPage_0 1 rfl rfl)
theorem dX4_namesByPage_2 : decode cX4_namesByPage 2 = .ok (.invokevirtual 444, 3) := dk_182 1 188 (dk_at dksX4_namesByPage_0 2 rfl rfl)
theorem dX4_namesByPage_5 : decode cX4_namesByPage 5 = .ok (.iconst 0, 1) := dk_3 (dk_at dksX4_namesByPage_0 5 rfl rfl)
theorem dX4_namesByPage_6 : decode cX4_namesByPage 6 = .ok (.istore_n 2, 1) := dk_61 (dk_at dksX4_namesByPage_0 6 rfl rfl)
theorem dX4_namesByPage_7 : decode cX4_namesByPage 7 = .ok (.iload_n 2, 1) := dk_28 (dk_at dksX4_namesByPage_0 7 rfl rfl)
theorem dX4_namesByPage_8 : decode cX4_namesByPage 8 = .ok (.aload_n 0, 1) := dk_42 (dk_at dksX4_namesByPage_0 8 rfl rfl)
theorem dX4_namesByPage_9 : decode cX4_namesByPage 9 = .ok (.getfield 201, 3) := dk_180 0 201 (dk_at dksX4_namesByPage_0 9 rfl rfl)
theorem dX4_namesByPage_12 : decode cX4_namesByPage 12 = .ok (.if_icmp .ge 76, 3) := dk_162 0 76 (dk_at dksX4_namesByPage_0 12 rfl rfl)
theorem dX4_namesByPage_15 : decode cX4_namesByPage 15 = .ok (.aload_n 0, 1) := dk_42 (dk_at dksX4_namesByPage_0 15 rfl rfl)
theorem dX4_namesByPage_16 : decode cX4_namesByPage 16 = .ok (.getfield 66, 3) := dk_180 0 66 (dk_at dksX4_namesByPage_0 16 rfl rfl)
theorem dX4_namesByPage_19 : decode cX4_namesByPage 19 = .ok (.iload_n 2, 1) := dk_28 (dk_at dksX4_namesByPage_0 19 rfl rfl)
theorem dX4_namesByPage_20 : decode cX4_namesByPage 20 = .ok (.iaload, 1) := dk_46 (dk_at dksX4_namesByPage_0 20 rfl rfl)
theorem dX4_namesByPage_21 : decode cX4_namesByPage 21 = .ok (.iload_n 1, 1) := dk_27 (dk_at dksX4_namesByPage_0 21 rfl rfl)
theorem dX4_namesByPage_22 : decode cX4_namesByPage 22 = .ok (.if_icmp .eq 6, 3) := dk_159 0 6 (dk_at dksX4_namesByPage_1 0 rfl rfl)
theorem dX4_namesByPage_25 : decode cX4_namesByPage 25 = .ok (.goto 57, 3) := dk_167 0 57 (dk_at dksX4_namesByPage_1 3 rfl rfl)
theorem dX4_namesByPage_28 : decode cX4_namesByPage 28 = .ok (.aload_n 0, 1) := dk_42 (dk_at dksX4_namesByPage_1 6 rfl rfl)
theorem dX4_namesByPage_29 : decode cX4_namesByPage 29 = .ok (.getfield 111, 3) := dk_180 0 111 (dk_at dksX4_namesByPage_1 7 rfl rfl)
theorem dX4_namesByPage_32 : decode cX4_namesByPage 32 = .ok (.bipush 9, 2) := dk_16 9 (dk_at dksX4_namesByPage_1 10 rfl rfl)
theorem dX4_namesByPage_34 : decode cX4_namesByPage 34 = .ok (.dup2, 1) := dk_92 (dk_at dksX4_namesByPage_1 12 rfl rfl)
theorem dX4_namesByPage_35 : decode cX4_namesByPage 35 = .ok (.laload, 1) := dk_47 (dk_at dksX4_namesByPage_1 13 rfl rfl)
theorem dX4_namesByPage_36 : decode cX4_namesByPage 36 = .ok (.lconst 1, 1) := dk_10 (dk_at dksX4_namesByPage_1 14 rfl rfl)
theorem dX4_namesByPage_37 : decode cX4_namesByPage 37 = .ok (.ladd, 1) := dk_97 (dk_at dksX4_namesByPage_1 15 rfl rfl)
theorem dX4_namesByPage_38 : decode cX4_namesByPage 38 = .ok (.lastore, 1) := dk_80 (dk_at dksX4_namesByPage_1 16 rfl rfl)
theorem dX4_namesByPage_39 : decode cX4_namesByPage 39 = .ok (.aload_n 0, 1) := dk_42 (dk_at dksX4_namesByPage_1 17 rfl rfl)
theorem dX4_namesByPage_40 : decode cX4_namesByPage 40 = .ok (.iload_n 2, 1) := dk_28 (dk_at dksX4_namesByPage_1 18 rfl rfl)
theorem dX4_namesByPage_41 : decode cX4_namesByPage 41 = .ok (.invokevirtual 376, 3) := dk_182 1 120 (dk_at dksX4_namesByPage_1 19 rfl rfl)
theorem dX4_namesByPage_44 : decode cX4_namesByPage 44 = .ok (.ifCond .eq 38, 3) := dk_153 0 38 (dk_at dksX4_namesByPage_2 0 rfl rfl)
theorem dX4_namesByPage_47 : decode cX4_namesByPage 47 = .ok (.aload_n 0, 1) := dk_42 (dk_at dksX4_namesByPage_2 3 rfl rfl)
theorem dX4_namesByPage_48 : decode cX4_namesByPage 48 = .ok (.getfield 111, 3) := dk_180 0 111 (dk_at dksX4_namesByPage_2 4 rfl rfl)
theorem dX4_namesByPage_51 : decode cX4_namesByPage 51 = .ok (.aload_n 0, 1) := dk_42 (dk_at dksX4_namesByPage_2 7 rfl rfl)
theorem dX4_namesByPage_52 : decode cX4_namesByPage 52 = .ok (.getfield 72, 3) := dk_180 0 72 (dk_at dksX4_namesByPage_2 8 rfl rfl)
theorem dX4_namesByPage_55 : decode cX4_namesByPage 55 = .ok (.iload_n 2, 1) := dk_28 (dk_at dksX4_namesByPage_2 11 rfl rfl)
theorem dX4_namesByPage_56 : decode cX4_namesByPage 56 = .ok (.iaload, 1) := dk_46 (dk_at dksX4_namesByPage_2 12 rfl rfl)
theorem dX4_namesByPage_57 : decode cX4_namesByPage 57 = .ok (.aload_n 0, 1) := dk_42 (dk_at dksX4_namesByPage_2 13 rfl rfl)
theorem dX4_namesByPage_58 : decode cX4_namesByPage 58 = .ok (.getfield 26, 3) := dk_180 0 26 (dk_at dksX4_namesByPage_2 14 rfl rfl)
theorem dX4_namesByPage_61 : decode cX4_namesByPage 61 = .ok (.aload_n 0, 1) := dk_42 (dk_at dksX4_namesByPage_2 17 rfl rfl)
theorem dX4_namesByPage_62 : decode cX4_namesByPage 62 = .ok (.getfield 69, 3) := dk_180 0 69 (dk_at dksX4_namesByPage_2 18 rfl rfl)
theorem dX4_namesByPage_65 : decode cX4_namesByPage 65 = .ok (.iload_n 2, 1) := dk_28 (dk_at dksX4_namesByPage_2 21 rfl rfl)
theorem dX4_namesByPage_66 : decode cX4_namesByPage 66 = .ok (.iaload, 1) := dk_46 (dk_at dksX4_namesByPage_2 22 rfl rfl)
theorem dX4_namesByPage_67 : decode cX4_namesByPage 67 = .ok (.iaload, 1) := dk_46 (dk_at dksX4_namesByPage_2 23 rfl rfl)
theorem dX4_namesByPage_68 : decode cX4_namesByPage 68 = .ok (.if_icmp .ne 7, 3) := dk_160 0 7 (dk_at dksX4_namesByPage_3 0 rfl rfl)
theorem dX4_namesByPage_71 : decode cX4_namesByPage 71 = .ok (.iconst 5, 1) := dk_8 (dk_at dksX4_namesByPage_3 3 rfl rfl)
theorem dX4_namesByPage_72 : decode cX4_namesByPage 72 = .ok (.goto 5, 3) := dk_167 0 5 (dk_at dksX4_namesByPage_3 4 rfl rfl)
theorem dX4_namesByPage_75 : decode cX4_namesByPage 75 = .ok (.bipush 6, 2) := dk_16 6 (dk_at dksX4_namesByPage_3 7 rfl rfl)
theorem dX4_namesByPage_77 : decode cX4_namesByPage 77 = .ok (.dup2, 1) := dk_92 (dk_at dksX4_namesByPage_3 9 rfl rfl)
theorem dX4_namesByPage_78 : decode cX4_namesByPage 78 = .ok (.laload, 1) := dk_47 (dk_at dksX4_namesByPage_3 10 rfl rfl)
theorem dX4_namesByPage_79 : decode cX4_namesByPage 79 = .ok (.lconst 1, 1) := dk_10 (dk_at dksX4_namesByPage_3 11 rfl rfl)
theorem dX4_namesByPage_80 : decode cX4_namesByPage 80 = .ok (.ladd, 1) := dk_97 (dk_at dksX4_namesByPage_3 12 rfl rfl)
theorem dX4_namesByPage_81 : decode cX4_namesByPage 81 = .ok (.lastore, 1) := dk_80 (dk_at dksX4_namesByPage_3 13 rfl rfl)
theorem dX4_namesByPage_82 : decode cX4_namesByPage 82 = .ok (.iinc 2 1, 3) := dk_132 2 1 (dk_at dksX4_namesByPage_3 14 rfl rfl)
theorem dX4_namesByPage_85 : decode cX4_namesByPage 85 = .ok (.goto (-78), 3) := dk_167 255 178 (dk_at dksX4_namesByPage_3 17 rfl rfl)
theorem dX4_namesByPage_88 : decode cX4_namesByPage 88 = .ok (.return_, 1) := dk_177 (dk_at dksX4_namesByPage_3 20 rfl rfl)
abbrev cX4_there_2 : ByteArray := prog_18_method_114_code
def yX4_there_2 : MethodName := ⟨RX4, "there", "(I)I"⟩
def dkwX4_there_2_1 : List UInt8 := [172]
abbrev dktX4_there_2_1 : List UInt8 := dkwX4_there_2_1 ++ []
def dkwX4_there_2_0 : List UInt8 := [42, 3, 181, 0, 124, 42, 27, 182, 1, 151, 154, 0, 5, 2, 172, 42, 27, 181, 0, 217, 27, 184, 1, 148]
abbrev dktX4_there_2_0 : List UInt8 := dkwX4_there_2_0 ++ dktX4_there_2_1
theorem dksX4_there_2_0 : cX4_there_2.data.toList.drop 0 = dktX4_there_2_0 := by decide +kernel
theorem dksX4_there_2_1 : cX4_there_2.data.toList.drop 24 = dktX4_there_2_1 := dk_seg dksX4_there_2_0 24 rfl rfl
theorem dX4_there_2_0 : decode cX4_there_2 0 = .ok (.aload_n 0, 1) := dk_42 (dk_at dksX4_there_2_0 0 rfl rfl)
theorem dX4_there_2_1 : decode cX4_there_2 1 = .ok (.iconst 0, 1) := dk_3 (dk_at dksX4_there_2_0 1 rfl rfl)
theorem dX4_there_2_2 : decode cX4_there_2 2 = .ok (.putfield 124, 3) := dk_181 0 124 (dk_at dksX4_there_2_0 2 rfl rfl)
theorem dX4_there_2_5 : decode cX4_there_2 5 = .ok (.aload_n 0, 1) := dk_42 (dk_at dksX4_there_2_0 5 rfl rfl)
theorem dX4_there_2_6 : decode cX4_there_2 6 = .ok (.iload_n 1, 1) := dk_27 (dk_at dksX4_there_2_0 6 rfl rfl)
theorem dX4_there_2_7 : decode cX4_there_2 7 = .ok (.invokevirtual 407, 3) := dk_182 1 151 (dk_at dksX4_there_2_0 7 rfl rfl)
theorem dX4_there_2_10 : decode cX4_there_2 10 = .ok (.ifCond .ne 5, 3) := dk_154 0 5 (dk_at dksX4_there_2_0 10 rfl rfl)
theorem dX4_there_2_13 : decode cX4_there_2 13 = .ok (.iconst (-1), 1) := dk_2 (dk_at dksX4_there_2_0 13 rfl rfl)
theorem dX4_there_2_14 : decode cX4_there_2 14 = .ok (.ireturn, 1) := dk_172 (dk_at dksX4_there_2_0 14 rfl rfl)
theorem dX4_there_2_15 : decode cX4_there_2 15 = .ok (.aload_n 0, 1) := dk_42 (dk_at dksX4_there_2_0 15 rfl rfl)
theorem dX4_there_2_16 : decode cX4_there_2 16 = .ok (.iload_n 1, 1) := dk_27 (dk_at dksX4_there_2_0 16 rfl rfl)
theorem dX4_there_2_17 : decode cX4_there_2 17 = .ok (.putfield 217, 3) := dk_181 0 217 (dk_at dksX4_there_2_0 17 rfl rfl)
theorem dX4_there_2_20 : decode cX4_there_2 20 = .ok (.iload_n 1, 1) := dk_27 (dk_at dksX4_there_2_0 20 rfl rfl)
theorem dX4_there_2_21 : decode cX4_there_2 21 = .ok (.invokestatic 404, 3) := dk_184 1 148 (dk_at dksX4_there_2_0 21 rfl rfl)
theorem dX4_there_2_24 : decode cX4_there_2 24 = .ok (.ireturn, 1) := dk_172 (dk_at dksX4_there_2_1 0 rfl rfl)
abbrev cX4_found : ByteArray := prog_18_method_115_code
def yX4_found : MethodName := ⟨RX4, "found", "(II)I"⟩
def dkwX4_found_4 : List UInt8 := [180, 0, 217, 29, 2, 130, 126, 172]
abbrev dktX4_found_4 : List UInt8 := dkwX4_found_4 ++ []
def dkwX4_found_3 : List UInt8 := [132, 4, 1, 167, 255, 214, 28, 154, 0, 14, 29, 42, 180, 0, 217, 2, 130, 126, 167, 0, 11, 42]
abbrev dktX4_found_3 : List UInt8 := dkwX4_found_3 ++ dktX4_found_4
def dkwX4_found_2 : List UInt8 := [153, 0, 19, 42, 21, 4, 182, 1, 238, 154, 0, 10, 4, 21, 4, 120, 167, 0, 4, 3, 128, 62]
abbrev dktX4_found_2 : List UInt8 := dkwX4_found_2 ++ dktX4_found_3
def dkwX4_found_1 : List UInt8 := [172, 3, 62, 3, 54, 4, 21, 4, 42, 180, 0, 195, 162, 0, 39, 29, 42, 21, 4, 27, 182, 1, 241]
abbrev dktX4_found_1 : List UInt8 := dkwX4_found_1 ++ dktX4_found_2
def dkwX4_found_0 : List UInt8 := [42, 3, 181, 0, 124, 27, 3, 5, 184, 1, 68, 153, 0, 12, 28, 3, 4, 184, 1, 68, 154, 0, 5, 2]
abbrev dktX4_found_0 : List UInt8 := dkwX4_found_0 ++ dktX4_found_1
theorem dksX4_found_0 : cX4_found.data.toList.drop 0 = dktX4_found_0 := by decide +kernel
theorem dksX4_found_1 : cX4_found.data.toList.drop 24 = dktX4_found_1 := dk_seg dksX4_found_0 24 rfl rfl
theorem dksX4_found_2 : cX4_found.data.toList.drop 47 = dktX4_found_2 := dk_seg dksX4_found_1 23 rfl rfl
theorem dksX4_found_3 : cX4_found.data.toList.drop 69 = dktX4_found_3 := dk_seg dksX4_found_2 22 rfl rfl
theorem dksX4_found_4 : cX4_found.data.toList.drop 91 = dktX4_found_4 := dk_seg dksX4_found_3 22 rfl rfl
theorem dX4_found_0 : decode cX4_found 0 = .ok (.aload_n 0, 1) := dk_42 (dk_at dksX4_found_0 0 rfl rfl)
theorem dX4_found_1 : decode cX4_found 1 = .ok (.iconst 0, 1) := dk_3 (dk_at dksX4_found_0 1 rfl rfl)
theorem dX4_found_2 : decode cX4_found 2 = .ok (.putfield 124, 3) := dk_181 0 124 (dk_at dksX4_found_0 2 rfl rfl)
theorem dX4_found_5 : decode cX4_found 5 = .ok (.iload_n 1, 1) := dk_27 (dk_at dksX4_found_0 5 rfl rfl)
theorem dX4_found_6 : decode cX4_found 6 = .ok (.iconst 0, 1) := dk_3 (dk_at dksX4_found_0 6 rfl rfl)
theorem dX4_found_7 : decode cX4_found 7 = .ok (.iconst 2, 1) := dk_5 (dk_at dksX4_found_0 7 rfl rfl)
theorem dX4_found_8 : decode cX4_found 8 = .ok (.invokestatic 324, 3) := dk_184 1 68 (dk_at dksX4_found_0 8 rfl rfl)
theorem dX4_found_11 : decode cX4_found 11 = .ok (.ifCond .eq 12, 3) := dk_153 0 12 (dk_at dksX4_found_0 11 rfl rfl)
theorem dX4_found_14 : decode cX4_found 14 = .ok (.iload_n 2, 1) := dk_28 (dk_at dksX4_found_0 14 rfl rfl)
theorem dX4_found_15 : decode cX4_found 15 = .ok (.iconst 0, 1) := dk_3 (dk_at dksX4_found_0 15 rfl rfl)
theorem dX4_found_16 : decode cX4_found 16 = .ok (.iconst 1, 1) := dk_4 (dk_at dksX4_found_0 16 rfl rfl)
theorem dX4_found_17 : decode cX4_found 17 = .ok (.invokestatic 324, 3) := dk_184 1 68 (dk_at dksX4_found_0 17 rfl rfl)
theorem dX4_found_20 : decode cX4_found 20 = .ok (.ifCond .ne 5, 3) := dk_154 0 5 (dk_at dksX4_found_0 20 rfl rfl)
theorem dX4_found_23 : decode cX4_found 23 = .ok (.iconst (-1), 1) := dk_2 (dk_at dksX4_found_0 23 rfl rfl)
theorem dX4_found_24 : decode cX4_found 24 = .ok (.ireturn, 1) := dk_172 (dk_at dksX4_found_1 0 rfl rfl)
theorem dX4_found_25 : decode cX4_found 25 = .ok (.iconst 0, 1) := dk_3 (dk_at dksX4_found_1 1 rfl rfl)
theorem dX4_found_26 : decode cX4_found 26 = .ok (.istore_n 3, 1) := dk_62 (dk_at dksX4_found_1 2 rfl rfl)
theorem dX4_found_27 : decode cX4_found 27 = .ok (.iconst 0, 1) := dk_3 (dk_at dksX4_found_1 3 rfl rfl)
theorem dX4_found_28 : decode cX4_found 28 = .ok (.istore 4, 2) := dk_54 4 (dk_at dksX4_found_1 4 rfl rfl)
theorem dX4_found_30 : decode cX4_found 30 = .ok (.iload 4, 2) := dk_21 4 (dk_at dksX4_found_1 6 rfl rfl)
theorem dX4_found_32 : decode cX4_found 32 = .ok (.aload_n 0, 1) := dk_42 (dk_at dksX4_found_1 8 rfl rfl)
theorem dX4_found_33 : decode cX4_found 33 = .ok (.getfield 195, 3) := dk_180 0 195 (dk_at dksX4_found_1 9 rfl rfl)
theorem dX4_found_36 : decode cX4_found 36 = .ok (.if_icmp .ge 39, 3) := dk_162 0 39 (dk_at dksX4_found_1 12 rfl rfl)
theorem dX4_found_39 : decode cX4_found 39 = .ok (.iload_n 3, 1) := dk_29 (dk_at dksX4_found_1 15 rfl rfl)
theorem dX4_found_40 : decode cX4_found 40 = .ok (.aload_n 0, 1) := dk_42 (dk_at dksX4_found_1 16 rfl rfl)
theorem dX4_found_41 : decode cX4_found 41 = .ok (.iload 4, 2) := dk_21 4 (dk_at dksX4_found_1 17 rfl rfl)
theorem dX4_found_43 : decode cX4_found 43 = .ok (.iload_n 1, 1) := dk_27 (dk_at dksX4_found_1 19 rfl rfl)
theorem dX4_found_44 : decode cX4_found 44 = .ok (.invokevirtual 497, 3) := dk_182 1 241 (dk_at dksX4_found_1 20 rfl rfl)
theorem dX4_found_47 : decode cX4_found 47 = .ok (.ifCond .eq 19, 3) := dk_153 0 19 (dk_at dksX4_found_2 0 rfl rfl)
theorem dX4_found_50 : decode cX4_found 50 = .ok (.aload_n 0, 1) := dk_42 (dk_at dksX4_found_2 3 rfl rfl)
theorem dX4_found_51 : decode cX4_found 51 = .ok (.iload 4, 2) := dk_21 4 (dk_at dksX4_found_2 4 rfl rfl)
theorem dX4_found_53 : decode cX4_found 53 = .ok (.invokevirtual 494, 3) := dk_182 1 238 (dk_at dksX4_found_2 6 rfl rfl)
theorem dX4_found_56 : decode cX4_found 56 = .ok (.ifCond .ne 10, 3) := dk_154 0 10 (dk_at dksX4_found_2 9 rfl rfl)
theorem dX4_found_59 : decode cX4_found 59 = .ok (.iconst 1, 1) := dk_4 (dk_at dksX4_found_2 12 rfl rfl)
theorem dX4_found_60 : decode cX4_found 60 = .ok (.iload 4, 2) := dk_21 4 (dk_at dksX4_found_2 13 rfl rfl)
theorem dX4_found_62 : decode cX4_found 62 = .ok (.ishl, 1) := dk_120 (dk_at dksX4_found_2 15 rfl rfl)
theorem dX4_found_63 : decode cX4_found 63 = .ok (.goto 4, 3) := dk_167 0 4 (dk_at dksX4_found_2 16 rfl rfl)
theorem dX4_found_66 : decode cX4_found 66 = .ok (.iconst 0, 1) := dk_3 (dk_at dksX4_found_2 19 rfl rfl)
theorem dX4_found_67 : decode cX4_found 67 = .ok (.ior, 1) := dk_128 (dk_at dksX4_found_2 20 rfl rfl)
theorem dX4_found_68 : decode cX4_found 68 = .ok (.istore_n 3, 1) := dk_62 (dk_at dksX4_found_2 21 rfl rfl)
theorem dX4_found_69 : decode cX4_found 69 = .ok (.iinc 4 1, 3) := dk_132 4 1 (dk_at dksX4_found_3 0 rfl rfl)
theorem dX4_found_72 : decode cX4_found 72 = .ok (.goto (-42), 3) := dk_167 255 214 (dk_at dksX4_found_3 3 rfl rfl)
theorem dX4_found_75 : decode cX4_found 75 = .ok (.iload_n 2, 1) := dk_28 (dk_at dksX4_found_3 6 rfl rfl)
theorem dX4_found_76 : decode cX4_found 76 = .ok (.ifCond .ne 14, 3) := dk_154 0 14 (dk_at dksX4_found_3 7 rfl rfl)
theorem dX4_found_79 : decode cX4_found 79 = .ok (.iload_n 3, 1) := dk_29 (dk_at dksX4_found_3 10 rfl rfl)
theorem dX4_found_80 : decode cX4_found 80 = .ok (.aload_n 0, 1) := dk_42 (dk_at dksX4_found_3 11 rfl rfl)
theorem dX4_found_81 : decode cX4_found 81 = .ok (.getfield 217, 3) := dk_180 0 217 (dk_at dksX4_found_3 12 rfl rfl)
theorem dX4_found_84 : decode cX4_found 84 = .ok (.iconst (-1), 1) := dk_2 (dk_at dksX4_found_3 15 rfl rfl)
theorem dX4_found_85 : decode cX4_found 85 = .ok (.ixor, 1) := dk_130 (dk_at dksX4_found_3 16 rfl rfl)
theorem dX4_found_86 : decode cX4_found 86 = .ok (.iand, 1) := dk_126 (dk_at dksX4_found_3 17 rfl rfl)
theorem dX4_found_87 : decode cX4_found 87 = .ok (.goto 11, 3) := dk_167 0 11 (dk_at dksX4_found_3 18 rfl rfl)
theorem dX4_found_90 : decode cX4_found 90 = .ok (.aload_n 0, 1) := dk_42 (dk_at dksX4_found_3 21 rfl rfl)
theorem dX4_found_91 : decode cX4_found 91 = .ok (.getfield 217, 3) := dk_180 0 217 (dk_at dksX4_found_4 0 rfl rfl)
theorem dX4_found_94 : decode cX4_found 94 = .ok (.iload_n 3, 1) := dk_29 (dk_at dksX4_found_4 3 rfl rfl)
theorem dX4_found_95 : decode cX4_found 95 = .ok (.iconst (-1), 1) := dk_2 (dk_at dksX4_found_4 4 rfl rfl)
theorem dX4_found_96 : decode cX4_found 96 = .ok (.ixor, 1) := dk_130 (dk_at dksX4_found_4 5 rfl rfl)
theorem dX4_found_97 : decode cX4_found 97 = .ok (.iand, 1) := dk_126 (dk_at dksX4_found_4 6 rfl rfl)
theorem dX4_found_98 : decode cX4_found 98 = .ok (.ireturn, 1) := dk_172 (dk_at dksX4_found_4 7 rfl rfl)
abbrev cX4_count : ByteArray := prog_18_method_116_code
def yX4_count : MethodName := ⟨RX4, "count", "(I)I"⟩
def dkwX4_count_3 : List UInt8 := [172, 42, 180, 0, 204, 172, 42, 180, 0, 214, 172, 42, 180, 0, 211, 172, 2, 172]
abbrev dktX4_count_3 : List UInt8 := dkwX4_count_3 ++ []
def dkwX4_count_2 : List UInt8 := [42, 180, 0, 192, 172, 42, 180, 0, 195, 172, 42, 180, 0, 198, 172, 42, 182, 1, 72, 172, 42, 180, 0, 201]
abbrev dktX4_count_2 : List UInt8 := dkwX4_count_2 ++ dktX4_count_3
def dkwX4_count_1 : List UInt8 := [170, 0, 0, 0, 0, 86, 0, 0, 0, 0, 0, 0, 0, 7, 0, 0, 0, 46, 0, 0, 0, 51, 0, 0, 0, 56, 0, 0, 0, 61, 0, 0, 0, 66, 0, 0, 0, 71, 0, 0, 0, 76, 0, 0, 0, 81]
abbrev dktX4_count_1 : List UInt8 := dkwX4_count_1 ++ dktX4_count_2
def dkwX4_count_0 : List UInt8 := [42, 3, 181, 0, 124, 27]
abbrev dktX4_count_0 : List UInt8 := dkwX4_count_0 ++ dktX4_count_1
theorem dksX4_count_0 : cX4_count.data.toList.drop 0 = dktX4_count_0 := by decide +kernel
theorem dksX4_count_1 : cX4_count.data.toList.drop 6 = dktX4_count_1 := dk_seg dksX4_count_0 6 rfl rfl
theorem dksX4_count_2 : cX4_count.data.toList.drop 52 = dktX4_count_2 := dk_seg dksX4_count_1 46 rfl rfl
theorem dksX4_count_3 : cX4_count.data.toList.drop 76 = dktX4_count_3 := dk_seg dksX4_count_2 24 rfl rfl
theorem dX4_count_0 : decode cX4_count 0 = .ok (.aload_n 0, 1) := dk_42 (dk_at dksX4_count_0 0 rfl rfl)
theorem dX4_count_1 : decode cX4_count 1 = .ok (.iconst 0, 1) := dk_3 (dk_at dksX4_count_0 1 rfl rfl)
theorem dX4_count_2 : decode cX4_count 2 = .ok (.putfield 124, 3) := dk_181 0 124 (dk_at dksX4_count_0 2 rfl rfl)
theorem dX4_count_5 : decode cX4_count 5 = .ok (.iload_n 1, 1) := dk_27 (dk_at dksX4_count_0 5 rfl rfl)
theorem dX4_count_6 : decode cX4_count 6 = .ok (.tableswitch 86 0 7 #[46, 51, 56, 61, 66, 71, 76, 81], 46) := by decide +kernel
theorem dX4_count_52 : decode cX4_count 52 = .ok (.aload_n 0, 1) := dk_42 (dk_at dksX4_count_2 0 rfl rfl)
theorem dX4_count_53 : decode cX4_count 53 = .ok (.getfield 192, 3) := dk_180 0 192 (dk_at dksX4_count_2 1 rfl rfl)
theorem dX4_count_56 : decode cX4_count 56 = .ok (.ireturn, 1) := dk_172 (dk_at dksX4_count_2 4 rfl rfl)
theorem dX4_count_57 : decode cX4_count 57 = .ok (.aload_n 0, 1) := dk_42 (dk_at dksX4_count_2 5 rfl rfl)
theorem dX4_count_58 : decode cX4_count 58 = .ok (.getfield 195, 3) := dk_180 0 195 (dk_at dksX4_count_2 6 rfl rfl)
theorem dX4_count_61 : decode cX4_count 61 = .ok (.ireturn, 1) := dk_172 (dk_at dksX4_count_2 9 rfl rfl)
theorem dX4_count_62 : decode cX4_count 62 = .ok (.aload_n 0, 1) := dk_42 (dk_at dksX4_count_2 10 rfl rfl)
theorem dX4_count_63 : decode cX4_count 63 = .ok (.getfield 198, 3) := dk_180 0 198 (dk_at dksX4_count_2 11 rfl rfl)
theorem dX4_count_66 : decode cX4_count 66 = .ok (.ireturn, 1) := dk_172 (dk_at dksX4_count_2 14 rfl rfl)
theorem dX4_count_67 : decode cX4_count 67 = .ok (.aload_n 0, 1) := dk_42 (dk_at dksX4_count_2 15 rfl rfl)
theorem dX4_count_68 : decode cX4_count 68 = .ok (.invokevirtual 328, 3) := dk_182 1 72 (dk_at dksX4_count_2 16 rfl rfl)
theorem dX4_count_71 : decode cX4_count 71 = .ok (.ireturn, 1) := dk_172 (dk_at dksX4_count_2 19 rfl rfl)
theorem dX4_count_72 : decode cX4_count 72 = .ok (.aload_n 0, 1) := dk_42 (dk_at dksX4_count_2 20 rfl rfl)
theorem dX4_count_73 : decode cX4_count 73 = .ok (.getfield 201, 3) := dk_180 0 201 (dk_at dksX4_count_2 21 rfl rfl)
theorem dX4_count_76 : decode cX4_count 76 = .ok (.ireturn, 1) := dk_172 (dk_at dksX4_count_3 0 rfl rfl)
theorem dX4_count_77 : decode cX4_count 77 = .ok (.aload_n 0, 1) := dk_42 (dk_at dksX4_count_3 1 rfl rfl)
theorem dX4_count_78 : decode cX4_count 78 = .ok (.getfield 204, 3) := dk_180 0 204 (dk_at dksX4_count_3 2 rfl rfl)
theorem dX4_count_81 : decode cX4_count 81 = .ok (.ireturn, 1) := dk_172 (dk_at dksX4_count_3 5 rfl rfl)
theorem dX4_count_82 : decode cX4_count 82 = .ok (.aload_n 0, 1) := dk_42 (dk_at dksX4_count_3 6 rfl rfl)
theorem dX4_count_83 : decode cX4_count 83 = .ok (.getfield 214, 3) := dk_180 0 214 (dk_at dksX4_count_3 7 rfl rfl)
theorem dX4_count_86 : decode cX4_count 86 = .ok (.ireturn, 1) := dk_172 (dk_at dksX4_count_3 10 rfl rfl)
theorem dX4_count_87 : decode cX4_count 87 = .ok (.aload_n 0, 1) := dk_42 (dk_at dksX4_count_3 11 rfl rfl)
theorem dX4_count_88 : decode cX4_count 88 = .ok (.getfield 211, 3) := dk_180 0 211 (dk_at dksX4_count_3 12 rfl rfl)
theorem dX4_count_91 : decode cX4_count 91 = .ok (.ireturn, 1) := dk_172 (dk_at dksX4_count_3 15 rfl rfl)
theorem dX4_count_92 : decode cX4_count 92 = .ok (.iconst (-1), 1) := dk_2 (dk_at dksX4_count_3 16 rfl rfl)
theorem dX4_count_93 : decode cX4_count 93 = .ok (.ireturn, 1) := dk_172 (dk_at dksX4_count_3 17 rfl rfl)
theorem q145 : (Jvm.Cond.initialized "SaidSoModel") ∈ lw_all := lw_g (lw_at lw_m1 7 rfl) rfl
theorem q710 : (Jvm.Cond.selects "SaidSoModel" ({ cls := "java/lang/Object", name := "getClass", desc := "()Ljava/lang/Class;" } : Jvm.MethodName) ({ cls := "java/lang/Object", name := "getClass", desc := "()Ljava/lang/Class;" } : Jvm.MethodName)) ∈ lw_all := lw_g (lw_at lw_m3 92 rfl) rfl
theorem q1403 : (Jvm.Cond.instantiable "SaidSoModel" (66 : Nat)) ∈ lw_all := lw_g (lw_at lw_m6 65 rfl) rfl
theorem q1405 : (Jvm.Cond.instanceMethod ({ cls := "SaidSoModel", name := "<init>", desc := "()V" } : Jvm.MethodName)) ∈ lw_all := lw_g (lw_at lw_m6 67 rfl) rfl
theorem q1406 : (Jvm.Cond.code ({ cls := "SaidSoModel", name := "<init>", desc := "()V" } : Jvm.MethodName) prog_18_method_1_code (1 : Nat) (Option.none : Option Jvm.ClassFile.FieldType)) ∈ lw_all := lw_g (lw_at lw_m6 68 rfl) rfl
theorem q1407 : (Jvm.Cond.methodLink "SaidSoModel" (1 : Nat) ({ cls := "java/lang/Object", name := "<init>", desc := "()V" } : Jvm.MethodName)) ∈ lw_all := lw_g (lw_at lw_m6 69 rfl) rfl
theorem q1408 : (Jvm.Cond.methodLink "SaidSoModel" (118 : Nat) ({ cls := "SaidSoModel", name := "plain", desc := "()V" } : Jvm.MethodName)) ∈ lw_all := lw_g (lw_at lw_m6 70 rfl) rfl
theorem q1409 : (Jvm.Cond.privateMethod ({ cls := "SaidSoModel", name := "plain", desc := "()V" } : Jvm.MethodName)) ∈ lw_tbl := lw_at lw_m6 71 rfl
theorem q1410 : (Jvm.Cond.instanceMethod ({ cls := "SaidSoModel", name := "plain", desc := "()V" } : Jvm.MethodName)) ∈ lw_all := lw_g (lw_at lw_m6 72 rfl) rfl
theorem q1411 : (Jvm.Cond.code ({ cls := "SaidSoModel", name := "plain", desc := "()V" } : Jvm.MethodName) prog_18_method_18_code (2 : Nat) (Option.none : Option Jvm.ClassFile.FieldType)) ∈ lw_all := lw_g (lw_at lw_m6 73 rfl) rfl
theorem q1412 : (Jvm.Cond.methodLink "SaidSoModel" (121 : Nat) ({ cls := "SaidSoModel", name := "keep", desc := "()V" } : Jvm.MethodName)) ∈ lw_all := lw_g (lw_at lw_m6 74 rfl) rfl
theorem q1413 : (Jvm.Cond.privateMethod ({ cls := "SaidSoModel", name := "keep", desc := "()V" } : Jvm.MethodName)) ∈ lw_tbl := lw_at lw_m6 75 rfl
theorem q1414 : (Jvm.Cond.instanceMethod ({ cls := "SaidSoModel", name := "keep", desc := "()V" } : Jvm.MethodName)) ∈ lw_all := lw_g (lw_at lw_m6 76 rfl) rfl
theorem q1415 : (Jvm.Cond.code ({ cls := "SaidSoModel", name := "keep", desc := "()V" } : Jvm.MethodName) prog_18_method_19_code (2 : Nat) (Option.none : Option Jvm.ClassFile.FieldType)) ∈ lw_all := lw_g (lw_at lw_m6 77 rfl) rfl
theorem q1416 : (Jvm.Cond.methodLink "SaidSoModel" (207 : Nat) ({ cls := "SaidSoModel", name := "copies", desc := "(II)V" } : Jvm.MethodName)) ∈ lw_all := lw_g (lw_at lw_m6 78 rfl) rfl
theorem q1417 : (Jvm.Cond.privateMethod ({ cls := "SaidSoModel", name := "copies", desc := "(II)V" } : Jvm.MethodName)) ∈ lw_tbl := lw_at lw_m6 79 rfl
theorem q1418 : (Jvm.Cond.instanceMethod ({ cls := "SaidSoModel", name := "copies", desc := "(II)V" } : Jvm.MethodName)) ∈ lw_all := lw_g (lw_at lw_m6 80 rfl) rfl
theorem q1419 : (Jvm.Cond.code ({ cls := "SaidSoModel", name := "copies", desc := "(II)V" } : Jvm.MethodName) prog_18_method_20_code (3 : Nat) (Option.none : Option Jvm.ClassFile.FieldType)) ∈ lw_all := lw_g (lw_at lw_m6 81 rfl) rfl
theorem q1420 : (Jvm.Cond.fieldLink "SaidSoModel" (7 : Nat) "SaidSoModel" "tape" "[I") ∈ lw_all := lw_g (lw_at lw_m6 82 rfl) rfl
theorem q1421 : (Jvm.Cond.fieldLink "SaidSoModel" (127 : Nat) "SaidSoModel" "tapeSize" "I") ∈ lw_all := lw_g (lw_at lw_m6 83 rfl) rfl
theorem q1422 : (Jvm.Cond.fieldLink "SaidSoModel" (124 : Nat) "SaidSoModel" "thrown" "I") ∈ lw_all := lw_g (lw_at lw_m6 84 rfl) rfl
theorem q1423 : (Jvm.Cond.fieldLink "SaidSoModel" (13 : Nat) "SaidSoModel" "words" "[I") ∈ lw_all := lw_g (lw_at lw_m6 85 rfl) rfl
theorem q1424 : (Jvm.Cond.fieldLink "SaidSoModel" (130 : Nat) "SaidSoModel" "fault" "I") ∈ lw_all := lw_g (lw_at lw_m6 86 rfl) rfl
theorem q1425 : (Jvm.Cond.fieldLink "SaidSoModel" (16 : Nat) "SaidSoModel" "faultPlace" "I") ∈ lw_all := lw_g (lw_at lw_m6 87 rfl) rfl
theorem q1426 : (Jvm.Cond.fieldLink "SaidSoModel" (136 : Nat) "SaidSoModel" "stop" "I") ∈ lw_all := lw_g (lw_at lw_m6 88 rfl) rfl
theorem q1427 : (Jvm.Cond.fieldLink "SaidSoModel" (139 : Nat) "SaidSoModel" "next" "I") ∈ lw_all := lw_g (lw_at lw_m6 89 rfl) rfl
theorem q1428 : (Jvm.Cond.fieldLink "SaidSoModel" (142 : Nat) "SaidSoModel" "kind" "I") ∈ lw_all := lw_g (lw_at lw_m6 90 rfl) rfl
theorem q1429 : (Jvm.Cond.fieldLink "SaidSoModel" (153 : Nat) "SaidSoModel" "which" "I") ∈ lw_all := lw_g (lw_at lw_m6 91 rfl) rfl
theorem q1430 : (Jvm.Cond.fieldLink "SaidSoModel" (133 : Nat) "SaidSoModel" "at" "I") ∈ lw_all := lw_g (lw_at lw_m6 92 rfl) rfl
theorem q1431 : (Jvm.Cond.fieldLink "SaidSoModel" (192 : Nat) "SaidSoModel" "things" "I") ∈ lw_all := lw_g (lw_at lw_m6 93 rfl) rfl
theorem q1432 : (Jvm.Cond.fieldLink "SaidSoModel" (195 : Nat) "SaidSoModel" "tellers" "I") ∈ lw_all := lw_g (lw_at lw_m6 94 rfl) rfl
theorem q1433 : (Jvm.Cond.fieldLink "SaidSoModel" (198 : Nat) "SaidSoModel" "talks" "I") ∈ lw_all := lw_g (lw_at lw_m6 95 rfl) rfl
theorem q1434 : (Jvm.Cond.fieldLink "SaidSoModel" (201 : Nat) "SaidSoModel" "pages" "I") ∈ lw_all := lw_g (lw_at lw_m6 96 rfl) rfl
theorem q1435 : (Jvm.Cond.fieldLink "SaidSoModel" (204 : Nat) "SaidSoModel" "knots" "I") ∈ lw_all := lw_g (lw_at lw_m6 97 rfl) rfl
theorem q1436 : (Jvm.Cond.fieldLink "SaidSoModel" (174 : Nat) "SaidSoModel" "thingsRead" "I") ∈ lw_all := lw_g (lw_at lw_m6 98 rfl) rfl
theorem q1437 : (Jvm.Cond.fieldLink "SaidSoModel" (177 : Nat) "SaidSoModel" "tellersRead" "I") ∈ lw_all := lw_g (lw_at lw_m6 99 rfl) rfl
theorem q1438 : (Jvm.Cond.fieldLink "SaidSoModel" (180 : Nat) "SaidSoModel" "talksRead" "I") ∈ lw_all := lw_g (lw_at lw_m6 100 rfl) rfl
theorem q1439 : (Jvm.Cond.fieldLink "SaidSoModel" (183 : Nat) "SaidSoModel" "pagesRead" "I") ∈ lw_all := lw_g (lw_at lw_m6 101 rfl) rfl
theorem q1440 : (Jvm.Cond.fieldLink "SaidSoModel" (186 : Nat) "SaidSoModel" "knotsRead" "I") ∈ lw_all := lw_g (lw_at lw_m6 102 rfl) rfl
theorem q1441 : (Jvm.Cond.fieldLink "SaidSoModel" (20 : Nat) "SaidSoModel" "thingName" "[I") ∈ lw_all := lw_g (lw_at lw_m6 103 rfl) rfl
theorem q1442 : (Jvm.Cond.fieldLink "SaidSoModel" (23 : Nat) "SaidSoModel" "ways" "[I") ∈ lw_all := lw_g (lw_at lw_m6 104 rfl) rfl
theorem q1443 : (Jvm.Cond.fieldLink "SaidSoModel" (26 : Nat) "SaidSoModel" "isSo" "[I") ∈ lw_all := lw_g (lw_at lw_m6 105 rfl) rfl
theorem q1444 : (Jvm.Cond.fieldLink "SaidSoModel" (29 : Nat) "SaidSoModel" "paper" "[I") ∈ lw_all := lw_g (lw_at lw_m6 106 rfl) rfl
theorem q1445 : (Jvm.Cond.fieldLink "SaidSoModel" (32 : Nat) "SaidSoModel" "police" "[I") ∈ lw_all := lw_g (lw_at lw_m6 107 rfl) rfl
theorem q1446 : (Jvm.Cond.fieldLink "SaidSoModel" (35 : Nat) "SaidSoModel" "tellerName" "[I") ∈ lw_all := lw_g (lw_at lw_m6 108 rfl) rfl
theorem q1447 : (Jvm.Cond.fieldLink "SaidSoModel" (38 : Nat) "SaidSoModel" "age" "[I") ∈ lw_all := lw_g (lw_at lw_m6 109 rfl) rfl
theorem q1448 : (Jvm.Cond.fieldLink "SaidSoModel" (41 : Nat) "SaidSoModel" "begins" "[I") ∈ lw_all := lw_g (lw_at lw_m6 110 rfl) rfl
theorem q1449 : (Jvm.Cond.fieldLink "SaidSoModel" (44 : Nat) "SaidSoModel" "finishes" "[I") ∈ lw_all := lw_g (lw_at lw_m6 111 rfl) rfl
theorem q1450 : (Jvm.Cond.fieldLink "SaidSoModel" (47 : Nat) "SaidSoModel" "taped" "[I") ∈ lw_all := lw_g (lw_at lw_m6 112 rfl) rfl
theorem q1451 : (Jvm.Cond.fieldLink "SaidSoModel" (50 : Nat) "SaidSoModel" "isWord" "[Z") ∈ lw_all := lw_g (lw_at lw_m6 113 rfl) rfl
theorem q1452 : (Jvm.Cond.fieldLink "SaidSoModel" (54 : Nat) "SaidSoModel" "who" "[I") ∈ lw_all := lw_g (lw_at lw_m6 114 rfl) rfl
theorem q1453 : (Jvm.Cond.fieldLink "SaidSoModel" (57 : Nat) "SaidSoModel" "hour" "[I") ∈ lw_all := lw_g (lw_at lw_m6 115 rfl) rfl
theorem q1454 : (Jvm.Cond.fieldLink "SaidSoModel" (60 : Nat) "SaidSoModel" "thing" "[I") ∈ lw_all := lw_g (lw_at lw_m6 116 rfl) rfl
theorem q1455 : (Jvm.Cond.fieldLink "SaidSoModel" (63 : Nat) "SaidSoModel" "value" "[I") ∈ lw_all := lw_g (lw_at lw_m6 117 rfl) rfl
theorem q1456 : (Jvm.Cond.fieldLink "SaidSoModel" (66 : Nat) "SaidSoModel" "pageWho" "[I") ∈ lw_all := lw_g (lw_at lw_m6 118 rfl) rfl
theorem q1457 : (Jvm.Cond.fieldLink "SaidSoModel" (69 : Nat) "SaidSoModel" "pageThing" "[I") ∈ lw_all := lw_g (lw_at lw_m6 119 rfl) rfl
theorem q1458 : (Jvm.Cond.fieldLink "SaidSoModel" (72 : Nat) "SaidSoModel" "pageValue" "[I") ∈ lw_all := lw_g (lw_at lw_m6 120 rfl) rfl
theorem q1459 : (Jvm.Cond.fieldLink "SaidSoModel" (75 : Nat) "SaidSoModel" "first" "[I") ∈ lw_all := lw_g (lw_at lw_m6 121 rfl) rfl
theorem q1460 : (Jvm.Cond.fieldLink "SaidSoModel" (78 : Nat) "SaidSoModel" "last" "[I") ∈ lw_all := lw_g (lw_at lw_m6 122 rfl) rfl
theorem q1461 : (Jvm.Cond.fieldLink "SaidSoModel" (81 : Nat) "SaidSoModel" "knot" "[I") ∈ lw_all := lw_g (lw_at lw_m6 123 rfl) rfl
theorem q1462 : (Jvm.Cond.fieldLink "SaidSoModel" (84 : Nat) "SaidSoModel" "part" "[I") ∈ lw_all := lw_g (lw_at lw_m6 124 rfl) rfl
theorem q1463 : (Jvm.Cond.fieldLink "SaidSoModel" (87 : Nat) "SaidSoModel" "other" "[I") ∈ lw_all := lw_g (lw_at lw_m6 125 rfl) rfl
theorem q1464 : (Jvm.Cond.fieldLink "SaidSoModel" (211 : Nat) "SaidSoModel" "told" "I") ∈ lw_all := lw_g (lw_at lw_m6 126 rfl) rfl
theorem q1465 : (Jvm.Cond.fieldLink "SaidSoModel" (214 : Nat) "SaidSoModel" "heard" "I") ∈ lw_all := lw_g (lw_at lw_m6 127 rfl) rfl
theorem q1466 : (Jvm.Cond.fieldLink "SaidSoModel" (217 : Nat) "SaidSoModel" "were" "I") ∈ lw_all := lw_g (lw_at lw_m6 128 rfl) rfl
theorem q1467 : (Jvm.Cond.fieldLink "SaidSoModel" (90 : Nat) "SaidSoModel" "truth" "I") ∈ lw_all := lw_g (lw_at lw_m6 129 rfl) rfl
theorem q1468 : (Jvm.Cond.fieldLink "SaidSoModel" (93 : Nat) "SaidSoModel" "oddsFor" "I") ∈ lw_all := lw_g (lw_at lw_m6 130 rfl) rfl
theorem q1469 : (Jvm.Cond.fieldLink "SaidSoModel" (96 : Nat) "SaidSoModel" "oddsAgainst" "I") ∈ lw_all := lw_g (lw_at lw_m6 131 rfl) rfl
theorem q1470 : (Jvm.Cond.fieldLink "SaidSoModel" (99 : Nat) "SaidSoModel" "wait" "[I") ∈ lw_all := lw_g (lw_at lw_m6 132 rfl) rfl
theorem q1471 : (Jvm.Cond.fieldLink "SaidSoModel" (102 : Nat) "SaidSoModel" "held" "[I") ∈ lw_all := lw_g (lw_at lw_m6 133 rfl) rfl
theorem q1472 : (Jvm.Cond.fieldLink "SaidSoModel" (245 : Nat) "SaidSoModel" "waits" "I") ∈ lw_all := lw_g (lw_at lw_m6 134 rfl) rfl
theorem q1473 : (Jvm.Cond.fieldLink "SaidSoModel" (242 : Nat) "SaidSoModel" "helds" "I") ∈ lw_all := lw_g (lw_at lw_m6 135 rfl) rfl
theorem q1474 : (Jvm.Cond.fieldLink "SaidSoModel" (263 : Nat) "SaidSoModel" "brackets" "I") ∈ lw_all := lw_g (lw_at lw_m6 136 rfl) rfl
theorem q1475 : (Jvm.Cond.fieldLink "SaidSoModel" (189 : Nat) "SaidSoModel" "counted" "I") ∈ lw_all := lw_g (lw_at lw_m6 137 rfl) rfl
theorem q1476 : (Jvm.Cond.fieldLink "SaidSoModel" (278 : Nat) "SaidSoModel" "wants" "Z") ∈ lw_all := lw_g (lw_at lw_m6 138 rfl) rfl
theorem q1477 : (Jvm.Cond.fieldLink "SaidSoModel" (270 : Nat) "SaidSoModel" "mayNot" "Z") ∈ lw_all := lw_g (lw_at lw_m6 139 rfl) rfl
theorem q1478 : (Jvm.Cond.fieldLink "SaidSoModel" (358 : Nat) "SaidSoModel" "oddsA" "J") ∈ lw_all := lw_g (lw_at lw_m6 140 rfl) rfl
theorem q1479 : (Jvm.Cond.fieldLink "SaidSoModel" (362 : Nat) "SaidSoModel" "oddsB" "J") ∈ lw_all := lw_g (lw_at lw_m6 141 rfl) rfl
theorem q1480 : (Jvm.Cond.fieldLink "SaidSoModel" (105 : Nat) "SaidSoModel" "said" "[I") ∈ lw_all := lw_g (lw_at lw_m6 142 rfl) rfl
theorem q1481 : (Jvm.Cond.fieldLink "SaidSoModel" (108 : Nat) "SaidSoModel" "long1" "[I") ∈ lw_all := lw_g (lw_at lw_m6 143 rfl) rfl
theorem q1482 : (Jvm.Cond.fieldLink "SaidSoModel" (111 : Nat) "SaidSoModel" "names" "[J") ∈ lw_all := lw_g (lw_at lw_m6 144 rfl) rfl
theorem q1483 : (Jvm.Cond.fieldLink "SaidSoModel" (115 : Nat) "SaidSoModel" "worth" "[J") ∈ lw_all := lw_g (lw_at lw_m6 145 rfl) rfl
theorem q1484 : (Jvm.Cond.fieldLink "SaidSoModel" (416 : Nat) "SaidSoModel" "isError" "Z") ∈ lw_all := lw_g (lw_at lw_m6 146 rfl) rfl
theorem q1485 : (Jvm.Cond.fieldLink "SaidSoModel" (455 : Nat) "SaidSoModel" "seedNow" "J") ∈ lw_all := lw_g (lw_at lw_m6 147 rfl) rfl
theorem q1486 : (Jvm.Cond.laysFinal "SaidSoModel" "SaidSoModel" "tape" "[I") ∈ lw_all := lw_g (lw_at lw_m6 148 rfl) rfl
theorem q1487 : (Jvm.Cond.soleField "SaidSoModel" "tape") ∈ lw_all := lw_g (lw_at lw_m6 149 rfl) rfl
theorem q1488 : (Jvm.Cond.lays "SaidSoModel" "SaidSoModel" "tapeSize" "I") ∈ lw_all := lw_g (lw_at lw_m6 150 rfl) rfl
theorem q1489 : (Jvm.Cond.soleField "SaidSoModel" "tapeSize") ∈ lw_all := lw_g (lw_at lw_m6 151 rfl) rfl
theorem q1490 : (Jvm.Cond.lays "SaidSoModel" "SaidSoModel" "thrown" "I") ∈ lw_all := lw_g (lw_at lw_m6 152 rfl) rfl
theorem q1491 : (Jvm.Cond.soleField "SaidSoModel" "thrown") ∈ lw_all := lw_g (lw_at lw_m6 153 rfl) rfl
theorem q1492 : (Jvm.Cond.laysFinal "SaidSoModel" "SaidSoModel" "words" "[I") ∈ lw_all := lw_g (lw_at lw_m6 154 rfl) rfl
theorem q1493 : (Jvm.Cond.soleField "SaidSoModel" "words") ∈ lw_all := lw_g (lw_at lw_m6 155 rfl) rfl
theorem q1494 : (Jvm.Cond.lays "SaidSoModel" "SaidSoModel" "fault" "I") ∈ lw_all := lw_g (lw_at lw_m6 156 rfl) rfl
theorem q1495 : (Jvm.Cond.soleField "SaidSoModel" "fault") ∈ lw_all := lw_g (lw_at lw_m6 157 rfl) rfl
theorem q1496 : (Jvm.Cond.lays "SaidSoModel" "SaidSoModel" "faultPlace" "I") ∈ lw_all := lw_g (lw_at lw_m6 158 rfl) rfl
theorem q1497 : (Jvm.Cond.soleField "SaidSoModel" "faultPlace") ∈ lw_all := lw_g (lw_at lw_m6 159 rfl) rfl
theorem q1498 : (Jvm.Cond.lays "SaidSoModel" "SaidSoModel" "stop" "I") ∈ lw_all := lw_g (lw_at lw_m6 160 rfl) rfl
theorem q1499 : (Jvm.Cond.soleField "SaidSoModel" "stop") ∈ lw_all := lw_g (lw_at lw_m6 161 rfl) rfl
theorem q1500 : (Jvm.Cond.lays "SaidSoModel" "SaidSoModel" "next" "I") ∈ lw_all := lw_g (lw_at lw_m6 162 rfl) rfl
theorem q1501 : (Jvm.Cond.soleField "SaidSoModel" "next") ∈ lw_all := lw_g (lw_at lw_m6 163 rfl) rfl
theorem q1502 : (Jvm.Cond.lays "SaidSoModel" "SaidSoModel" "kind" "I") ∈ lw_all := lw_g (lw_at lw_m6 164 rfl) rfl
theorem q1503 : (Jvm.Cond.soleField "SaidSoModel" "kind") ∈ lw_all := lw_g (lw_at lw_m6 165 rfl) rfl
theorem q1504 : (Jvm.Cond.lays "SaidSoModel" "SaidSoModel" "which" "I") ∈ lw_all := lw_g (lw_at lw_m6 166 rfl) rfl
theorem q1505 : (Jvm.Cond.soleField "SaidSoModel" "which") ∈ lw_all := lw_g (lw_at lw_m6 167 rfl) rfl
theorem q1506 : (Jvm.Cond.lays "SaidSoModel" "SaidSoModel" "at" "I") ∈ lw_all := lw_g (lw_at lw_m6 168 rfl) rfl
theorem q1507 : (Jvm.Cond.soleField "SaidSoModel" "at") ∈ lw_all := lw_g (lw_at lw_m6 169 rfl) rfl
theorem q1508 : (Jvm.Cond.lays "SaidSoModel" "SaidSoModel" "things" "I") ∈ lw_all := lw_g (lw_at lw_m6 170 rfl) rfl
theorem q1509 : (Jvm.Cond.soleField "SaidSoModel" "things") ∈ lw_all := lw_g (lw_at lw_m6 171 rfl) rfl
theorem q1510 : (Jvm.Cond.lays "SaidSoModel" "SaidSoModel" "tellers" "I") ∈ lw_all := lw_g (lw_at lw_m6 172 rfl) rfl
theorem q1511 : (Jvm.Cond.soleField "SaidSoModel" "tellers") ∈ lw_all := lw_g (lw_at lw_m6 173 rfl) rfl
theorem q1512 : (Jvm.Cond.lays "SaidSoModel" "SaidSoModel" "talks" "I") ∈ lw_all := lw_g (lw_at lw_m6 174 rfl) rfl
theorem q1513 : (Jvm.Cond.soleField "SaidSoModel" "talks") ∈ lw_all := lw_g (lw_at lw_m6 175 rfl) rfl
theorem q1514 : (Jvm.Cond.lays "SaidSoModel" "SaidSoModel" "pages" "I") ∈ lw_all := lw_g (lw_at lw_m6 176 rfl) rfl
theorem q1515 : (Jvm.Cond.soleField "SaidSoModel" "pages") ∈ lw_all := lw_g (lw_at lw_m6 177 rfl) rfl
theorem q1516 : (Jvm.Cond.lays "SaidSoModel" "SaidSoModel" "knots" "I") ∈ lw_all := lw_g (lw_at lw_m6 178 rfl) rfl
theorem q1517 : (Jvm.Cond.soleField "SaidSoModel" "knots") ∈ lw_all := lw_g (lw_at lw_m6 179 rfl) rfl
theorem q1518 : (Jvm.Cond.lays "SaidSoModel" "SaidSoModel" "thingsRead" "I") ∈ lw_all := lw_g (lw_at lw_m6 180 rfl) rfl
theorem q1519 : (Jvm.Cond.soleField "SaidSoModel" "thingsRead") ∈ lw_all := lw_g (lw_at lw_m6 181 rfl) rfl
theorem q1520 : (Jvm.Cond.lays "SaidSoModel" "SaidSoModel" "tellersRead" "I") ∈ lw_all := lw_g (lw_at lw_m6 182 rfl) rfl
theorem q1521 : (Jvm.Cond.soleField "SaidSoModel" "tellersRead") ∈ lw_all := lw_g (lw_at lw_m6 183 rfl) rfl
theorem q1522 : (Jvm.Cond.lays "SaidSoModel" "SaidSoModel" "talksRead" "I") ∈ lw_all := lw_g (lw_at lw_m6 184 rfl) rfl
theorem q1523 : (Jvm.Cond.soleField "SaidSoModel" "talksRead") ∈ lw_all := lw_g (lw_at lw_m6 185 rfl) rfl
theorem q1524 : (Jvm.Cond.lays "SaidSoModel" "SaidSoModel" "pagesRead" "I") ∈ lw_all := lw_g (lw_at lw_m6 186 rfl) rfl
theorem q1525 : (Jvm.Cond.soleField "SaidSoModel" "pagesRead") ∈ lw_all := lw_g (lw_at lw_m6 187 rfl) rfl
theorem q1526 : (Jvm.Cond.lays "SaidSoModel" "SaidSoModel" "knotsRead" "I") ∈ lw_all := lw_g (lw_at lw_m6 188 rfl) rfl
theorem q1527 : (Jvm.Cond.soleField "SaidSoModel" "knotsRead") ∈ lw_all := lw_g (lw_at lw_m6 189 rfl) rfl
theorem q1528 : (Jvm.Cond.laysFinal "SaidSoModel" "SaidSoModel" "thingName" "[I") ∈ lw_all := lw_g (lw_at lw_m6 190 rfl) rfl
theorem q1529 : (Jvm.Cond.soleField "SaidSoModel" "thingName") ∈ lw_all := lw_g (lw_at lw_m6 191 rfl) rfl
theorem q1530 : (Jvm.Cond.laysFinal "SaidSoModel" "SaidSoModel" "ways" "[I") ∈ lw_all := lw_g (lw_at lw_m6 192 rfl) rfl
theorem q1531 : (Jvm.Cond.soleField "SaidSoModel" "ways") ∈ lw_all := lw_g (lw_at lw_m6 193 rfl) rfl
theorem q1532 : (Jvm.Cond.laysFinal "SaidSoModel" "SaidSoModel" "isSo" "[I") ∈ lw_all := lw_g (lw_at lw_m6 194 rfl) rfl
theorem q1533 : (Jvm.Cond.soleField "SaidSoModel" "isSo") ∈ lw_all := lw_g (lw_at lw_m6 195 rfl) rfl
theorem q1534 : (Jvm.Cond.laysFinal "SaidSoModel" "SaidSoModel" "paper" "[I") ∈ lw_all := lw_g (lw_at lw_m6 196 rfl) rfl
theorem q1535 : (Jvm.Cond.soleField "SaidSoModel" "paper") ∈ lw_all := lw_g (lw_at lw_m6 197 rfl) rfl
theorem q1536 : (Jvm.Cond.laysFinal "SaidSoModel" "SaidSoModel" "police" "[I") ∈ lw_all := lw_g (lw_at lw_m6 198 rfl) rfl
theorem q1537 : (Jvm.Cond.soleField "SaidSoModel" "police") ∈ lw_all := lw_g (lw_at lw_m6 199 rfl) rfl
theorem q1538 : (Jvm.Cond.laysFinal "SaidSoModel" "SaidSoModel" "tellerName" "[I") ∈ lw_all := lw_g (lw_at lw_m6 200 rfl) rfl
theorem q1539 : (Jvm.Cond.soleField "SaidSoModel" "tellerName") ∈ lw_all := lw_g (lw_at lw_m6 201 rfl) rfl
theorem q1540 : (Jvm.Cond.laysFinal "SaidSoModel" "SaidSoModel" "age" "[I") ∈ lw_all := lw_g (lw_at lw_m6 202 rfl) rfl
theorem q1541 : (Jvm.Cond.soleField "SaidSoModel" "age") ∈ lw_all := lw_g (lw_at lw_m6 203 rfl) rfl
theorem q1542 : (Jvm.Cond.laysFinal "SaidSoModel" "SaidSoModel" "begins" "[I") ∈ lw_all := lw_g (lw_at lw_m6 204 rfl) rfl
theorem q1543 : (Jvm.Cond.soleField "SaidSoModel" "begins") ∈ lw_all := lw_g (lw_at lw_m6 205 rfl) rfl
theorem q1544 : (Jvm.Cond.laysFinal "SaidSoModel" "SaidSoModel" "finishes" "[I") ∈ lw_all := lw_g (lw_at lw_m6 206 rfl) rfl
theorem q1545 : (Jvm.Cond.soleField "SaidSoModel" "finishes") ∈ lw_all := lw_g (lw_at lw_m6 207 rfl) rfl
theorem q1546 : (Jvm.Cond.laysFinal "SaidSoModel" "SaidSoModel" "taped" "[I") ∈ lw_all := lw_g (lw_at lw_m6 208 rfl) rfl
theorem q1547 : (Jvm.Cond.soleField "SaidSoModel" "taped") ∈ lw_all := lw_g (lw_at lw_m6 209 rfl) rfl
theorem q1548 : (Jvm.Cond.laysFinal "SaidSoModel" "SaidSoModel" "isWord" "[Z") ∈ lw_all := lw_g (lw_at lw_m6 210 rfl) rfl
theorem q1549 : (Jvm.Cond.soleField "SaidSoModel" "isWord") ∈ lw_all := lw_g (lw_at lw_m6 211 rfl) rfl
theorem q1550 : (Jvm.Cond.laysFinal "SaidSoModel" "SaidSoModel" "who" "[I") ∈ lw_all := lw_g (lw_at lw_m6 212 rfl) rfl
theorem q1551 : (Jvm.Cond.soleField "SaidSoModel" "who") ∈ lw_all := lw_g (lw_at lw_m6 213 rfl) rfl
theorem q1552 : (Jvm.Cond.laysFinal "SaidSoModel" "SaidSoModel" "hour" "[I") ∈ lw_all := lw_g (lw_at lw_m6 214 rfl) rfl
theorem q1553 : (Jvm.Cond.soleField "SaidSoModel" "hour") ∈ lw_all := lw_g (lw_at lw_m6 215 rfl) rfl
theorem q1554 : (Jvm.Cond.laysFinal "SaidSoModel" "SaidSoModel" "thing" "[I") ∈ lw_all := lw_g (lw_at lw_m6 216 rfl) rfl
theorem q1555 : (Jvm.Cond.soleField "SaidSoModel" "thing") ∈ lw_all := lw_g (lw_at lw_m6 217 rfl) rfl
theorem q1556 : (Jvm.Cond.laysFinal "SaidSoModel" "SaidSoModel" "value" "[I") ∈ lw_all := lw_g (lw_at lw_m6 218 rfl) rfl
theorem q1557 : (Jvm.Cond.soleField "SaidSoModel" "value") ∈ lw_all := lw_g (lw_at lw_m6 219 rfl) rfl
theorem q1558 : (Jvm.Cond.laysFinal "SaidSoModel" "SaidSoModel" "pageWho" "[I") ∈ lw_all := lw_g (lw_at lw_m6 220 rfl) rfl
theorem q1559 : (Jvm.Cond.soleField "SaidSoModel" "pageWho") ∈ lw_all := lw_g (lw_at lw_m6 221 rfl) rfl
theorem q1560 : (Jvm.Cond.laysFinal "SaidSoModel" "SaidSoModel" "pageThing" "[I") ∈ lw_all := lw_g (lw_at lw_m6 222 rfl) rfl
theorem q1561 : (Jvm.Cond.soleField "SaidSoModel" "pageThing") ∈ lw_all := lw_g (lw_at lw_m6 223 rfl) rfl
theorem q1562 : (Jvm.Cond.laysFinal "SaidSoModel" "SaidSoModel" "pageValue" "[I") ∈ lw_all := lw_g (lw_at lw_m6 224 rfl) rfl
theorem q1563 : (Jvm.Cond.soleField "SaidSoModel" "pageValue") ∈ lw_all := lw_g (lw_at lw_m6 225 rfl) rfl
theorem q1564 : (Jvm.Cond.laysFinal "SaidSoModel" "SaidSoModel" "first" "[I") ∈ lw_all := lw_g (lw_at lw_m6 226 rfl) rfl
theorem q1565 : (Jvm.Cond.soleField "SaidSoModel" "first") ∈ lw_all := lw_g (lw_at lw_m6 227 rfl) rfl
theorem q1566 : (Jvm.Cond.laysFinal "SaidSoModel" "SaidSoModel" "last" "[I") ∈ lw_all := lw_g (lw_at lw_m6 228 rfl) rfl
theorem q1567 : (Jvm.Cond.soleField "SaidSoModel" "last") ∈ lw_all := lw_g (lw_at lw_m6 229 rfl) rfl
theorem q1568 : (Jvm.Cond.laysFinal "SaidSoModel" "SaidSoModel" "knot" "[I") ∈ lw_all := lw_g (lw_at lw_m6 230 rfl) rfl
theorem q1569 : (Jvm.Cond.soleField "SaidSoModel" "knot") ∈ lw_all := lw_g (lw_at lw_m6 231 rfl) rfl
theorem q1570 : (Jvm.Cond.laysFinal "SaidSoModel" "SaidSoModel" "part" "[I") ∈ lw_all := lw_g (lw_at lw_m6 232 rfl) rfl
theorem q1571 : (Jvm.Cond.soleField "SaidSoModel" "part") ∈ lw_all := lw_g (lw_at lw_m6 233 rfl) rfl
theorem q1572 : (Jvm.Cond.laysFinal "SaidSoModel" "SaidSoModel" "other" "[I") ∈ lw_all := lw_g (lw_at lw_m6 234 rfl) rfl
theorem q1573 : (Jvm.Cond.soleField "SaidSoModel" "other") ∈ lw_all := lw_g (lw_at lw_m6 235 rfl) rfl
theorem q1574 : (Jvm.Cond.lays "SaidSoModel" "SaidSoModel" "told" "I") ∈ lw_all := lw_g (lw_at lw_m6 236 rfl) rfl
theorem q1575 : (Jvm.Cond.soleField "SaidSoModel" "told") ∈ lw_all := lw_g (lw_at lw_m6 237 rfl) rfl
theorem q1576 : (Jvm.Cond.lays "SaidSoModel" "SaidSoModel" "heard" "I") ∈ lw_all := lw_g (lw_at lw_m6 238 rfl) rfl
theorem q1577 : (Jvm.Cond.soleField "SaidSoModel" "heard") ∈ lw_all := lw_g (lw_at lw_m6 239 rfl) rfl
theorem q1578 : (Jvm.Cond.lays "SaidSoModel" "SaidSoModel" "were" "I") ∈ lw_all := lw_g (lw_at lw_m7 0 rfl) rfl
theorem q1579 : (Jvm.Cond.soleField "SaidSoModel" "were") ∈ lw_all := lw_g (lw_at lw_m7 1 rfl) rfl
theorem q1580 : (Jvm.Cond.lays "SaidSoModel" "SaidSoModel" "truth" "I") ∈ lw_all := lw_g (lw_at lw_m7 2 rfl) rfl
theorem q1581 : (Jvm.Cond.soleField "SaidSoModel" "truth") ∈ lw_all := lw_g (lw_at lw_m7 3 rfl) rfl
theorem q1582 : (Jvm.Cond.lays "SaidSoModel" "SaidSoModel" "oddsFor" "I") ∈ lw_all := lw_g (lw_at lw_m7 4 rfl) rfl
theorem q1583 : (Jvm.Cond.soleField "SaidSoModel" "oddsFor") ∈ lw_all := lw_g (lw_at lw_m7 5 rfl) rfl
theorem q1584 : (Jvm.Cond.lays "SaidSoModel" "SaidSoModel" "oddsAgainst" "I") ∈ lw_all := lw_g (lw_at lw_m7 6 rfl) rfl
theorem q1585 : (Jvm.Cond.soleField "SaidSoModel" "oddsAgainst") ∈ lw_all := lw_g (lw_at lw_m7 7 rfl) rfl
theorem q1586 : (Jvm.Cond.laysFinal "SaidSoModel" "SaidSoModel" "wait" "[I") ∈ lw_all := lw_g (lw_at lw_m7 8 rfl) rfl
theorem q1587 : (Jvm.Cond.soleField "SaidSoModel" "wait") ∈ lw_all := lw_g (lw_at lw_m7 9 rfl) rfl
theorem q1588 : (Jvm.Cond.laysFinal "SaidSoModel" "SaidSoModel" "held" "[I") ∈ lw_all := lw_g (lw_at lw_m7 10 rfl) rfl
theorem q1589 : (Jvm.Cond.soleField "SaidSoModel" "held") ∈ lw_all := lw_g (lw_at lw_m7 11 rfl) rfl
theorem q1590 : (Jvm.Cond.lays "SaidSoModel" "SaidSoModel" "waits" "I") ∈ lw_all := lw_g (lw_at lw_m7 12 rfl) rfl
theorem q1591 : (Jvm.Cond.soleField "SaidSoModel" "waits") ∈ lw_all := lw_g (lw_at lw_m7 13 rfl) rfl
theorem q1592 : (Jvm.Cond.lays "SaidSoModel" "SaidSoModel" "helds" "I") ∈ lw_all := lw_g (lw_at lw_m7 14 rfl) rfl
theorem q1593 : (Jvm.Cond.soleField "SaidSoModel" "helds") ∈ lw_all := lw_g (lw_at lw_m7 15 rfl) rfl
theorem q1594 : (Jvm.Cond.lays "SaidSoModel" "SaidSoModel" "brackets" "I") ∈ lw_all := lw_g (lw_at lw_m7 16 rfl) rfl
theorem q1595 : (Jvm.Cond.soleField "SaidSoModel" "brackets") ∈ lw_all := lw_g (lw_at lw_m7 17 rfl) rfl
theorem q1596 : (Jvm.Cond.lays "SaidSoModel" "SaidSoModel" "counted" "I") ∈ lw_all := lw_g (lw_at lw_m7 18 rfl) rfl
theorem q1597 : (Jvm.Cond.soleField "SaidSoModel" "counted") ∈ lw_all := lw_g (lw_at lw_m7 19 rfl) rfl
theorem q1598 : (Jvm.Cond.lays "SaidSoModel" "SaidSoModel" "wants" "Z") ∈ lw_all := lw_g (lw_at lw_m7 20 rfl) rfl
theorem q1599 : (Jvm.Cond.soleField "SaidSoModel" "wants") ∈ lw_all := lw_g (lw_at lw_m7 21 rfl) rfl
theorem q1600 : (Jvm.Cond.lays "SaidSoModel" "SaidSoModel" "mayNot" "Z") ∈ lw_all := lw_g (lw_at lw_m7 22 rfl) rfl
theorem q1601 : (Jvm.Cond.soleField "SaidSoModel" "mayNot") ∈ lw_all := lw_g (lw_at lw_m7 23 rfl) rfl
theorem q1602 : (Jvm.Cond.lays "SaidSoModel" "SaidSoModel" "oddsA" "J") ∈ lw_all := lw_g (lw_at lw_m7 24 rfl) rfl
theorem q1603 : (Jvm.Cond.soleField "SaidSoModel" "oddsA") ∈ lw_all := lw_g (lw_at lw_m7 25 rfl) rfl
theorem q1604 : (Jvm.Cond.lays "SaidSoModel" "SaidSoModel" "oddsB" "J") ∈ lw_all := lw_g (lw_at lw_m7 26 rfl) rfl
theorem q1605 : (Jvm.Cond.soleField "SaidSoModel" "oddsB") ∈ lw_all := lw_g (lw_at lw_m7 27 rfl) rfl
theorem q1606 : (Jvm.Cond.laysFinal "SaidSoModel" "SaidSoModel" "said" "[I") ∈ lw_all := lw_g (lw_at lw_m7 28 rfl) rfl
theorem q1607 : (Jvm.Cond.soleField "SaidSoModel" "said") ∈ lw_all := lw_g (lw_at lw_m7 29 rfl) rfl
theorem q1608 : (Jvm.Cond.laysFinal "SaidSoModel" "SaidSoModel" "long1" "[I") ∈ lw_all := lw_g (lw_at lw_m7 30 rfl) rfl
theorem q1609 : (Jvm.Cond.soleField "SaidSoModel" "long1") ∈ lw_all := lw_g (lw_at lw_m7 31 rfl) rfl
theorem q1610 : (Jvm.Cond.laysFinal "SaidSoModel" "SaidSoModel" "names" "[J") ∈ lw_all := lw_g (lw_at lw_m7 32 rfl) rfl
theorem q1611 : (Jvm.Cond.soleField "SaidSoModel" "names") ∈ lw_all := lw_g (lw_at lw_m7 33 rfl) rfl
theorem q1612 : (Jvm.Cond.laysFinal "SaidSoModel" "SaidSoModel" "worth" "[J") ∈ lw_all := lw_g (lw_at lw_m7 34 rfl) rfl
theorem q1613 : (Jvm.Cond.soleField "SaidSoModel" "worth") ∈ lw_all := lw_g (lw_at lw_m7 35 rfl) rfl
theorem q1614 : (Jvm.Cond.lays "SaidSoModel" "SaidSoModel" "isError" "Z") ∈ lw_all := lw_g (lw_at lw_m7 36 rfl) rfl
theorem q1615 : (Jvm.Cond.soleField "SaidSoModel" "isError") ∈ lw_all := lw_g (lw_at lw_m7 37 rfl) rfl
theorem q1616 : (Jvm.Cond.lays "SaidSoModel" "SaidSoModel" "seedNow" "J") ∈ lw_all := lw_g (lw_at lw_m7 38 rfl) rfl
theorem q1617 : (Jvm.Cond.soleField "SaidSoModel" "seedNow") ∈ lw_all := lw_g (lw_at lw_m7 39 rfl) rfl
theorem q1618 : (Jvm.Cond.superclass "SaidSoModel" "java/lang/Object") ∈ lw_all := lw_g (lw_at lw_m7 40 rfl) rfl
theorem q1621 : (Jvm.Cond.instanceMethod ({ cls := "SaidSoModel", name := "thrown", desc := "()I" } : Jvm.MethodName)) ∈ lw_all := lw_g (lw_at lw_m7 43 rfl) rfl
theorem q1622 : (Jvm.Cond.selects "SaidSoModel" ({ cls := "SaidSoModel", name := "thrown", desc := "()I" } : Jvm.MethodName) ({ cls := "SaidSoModel", name := "thrown", desc := "()I" } : Jvm.MethodName)) ∈ lw_all := lw_g (lw_at lw_m7 44 rfl) rfl
theorem q1623 : (Jvm.Cond.code ({ cls := "SaidSoModel", name := "thrown", desc := "()I" } : Jvm.MethodName) prog_18_method_2_code (1 : Nat) (Option.some Jvm.ClassFile.FieldType.int)) ∈ lw_all := lw_g (lw_at lw_m7 45 rfl) rfl
theorem q1625 : (Jvm.Cond.instanceMethod ({ cls := "SaidSoModel", name := "feed", desc := "(IIIII)I" } : Jvm.MethodName)) ∈ lw_all := lw_g (lw_at lw_m7 47 rfl) rfl
theorem q1626 : (Jvm.Cond.selects "SaidSoModel" ({ cls := "SaidSoModel", name := "feed", desc := "(IIIII)I" } : Jvm.MethodName) ({ cls := "SaidSoModel", name := "feed", desc := "(IIIII)I" } : Jvm.MethodName)) ∈ lw_all := lw_g (lw_at lw_m7 48 rfl) rfl
theorem q1627 : (Jvm.Cond.code ({ cls := "SaidSoModel", name := "feed", desc := "(IIIII)I" } : Jvm.MethodName) prog_18_method_3_code (8 : Nat) (Option.some Jvm.ClassFile.FieldType.int)) ∈ lw_all := lw_g (lw_at lw_m7 49 rfl) rfl
theorem q1629 : (Jvm.Cond.instanceMethod ({ cls := "SaidSoModel", name := "tell", desc := "(I)I" } : Jvm.MethodName)) ∈ lw_all := lw_g (lw_at lw_m7 51 rfl) rfl
theorem q1630 : (Jvm.Cond.selects "SaidSoModel" ({ cls := "SaidSoModel", name := "tell", desc := "(I)I" } : Jvm.MethodName) ({ cls := "SaidSoModel", name := "tell", desc := "(I)I" } : Jvm.MethodName)) ∈ lw_all := lw_g (lw_at lw_m7 52 rfl) rfl
theorem q1631 : (Jvm.Cond.code ({ cls := "SaidSoModel", name := "tell", desc := "(I)I" } : Jvm.MethodName) prog_18_method_39_code (3 : Nat) (Option.some Jvm.ClassFile.FieldType.int)) ∈ lw_all := lw_g (lw_at lw_m7 53 rfl) rfl
theorem q1632 : (Jvm.Cond.methodLink "SaidSoModel" (171 : Nat) ({ cls := "SaidSoModel", name := "take", desc := "()V" } : Jvm.MethodName)) ∈ lw_all := lw_g (lw_at lw_m7 54 rfl) rfl
theorem q1633 : (Jvm.Cond.privateMethod ({ cls := "SaidSoModel", name := "take", desc := "()V" } : Jvm.MethodName)) ∈ lw_tbl := lw_at lw_m7 55 rfl
theorem q1634 : (Jvm.Cond.instanceMethod ({ cls := "SaidSoModel", name := "take", desc := "()V" } : Jvm.MethodName)) ∈ lw_all := lw_g (lw_at lw_m7 56 rfl) rfl
theorem q1635 : (Jvm.Cond.code ({ cls := "SaidSoModel", name := "take", desc := "()V" } : Jvm.MethodName) prog_18_method_11_code (1 : Nat) (Option.none : Option Jvm.ClassFile.FieldType)) ∈ lw_all := lw_g (lw_at lw_m7 57 rfl) rfl
theorem q1636 : (Jvm.Cond.methodLink "SaidSoModel" (145 : Nat) ({ cls := "SaidSoModel", name := "isSmall", desc := "(I)Z" } : Jvm.MethodName)) ∈ lw_all := lw_g (lw_at lw_m7 58 rfl) rfl
theorem q1637 : (Jvm.Cond.privateMethod ({ cls := "SaidSoModel", name := "isSmall", desc := "(I)Z" } : Jvm.MethodName)) ∈ lw_tbl := lw_at lw_m7 59 rfl
theorem q1638 : (Jvm.Cond.instanceMethod ({ cls := "SaidSoModel", name := "isSmall", desc := "(I)Z" } : Jvm.MethodName)) ∈ lw_all := lw_g (lw_at lw_m7 60 rfl) rfl
theorem q1639 : (Jvm.Cond.code ({ cls := "SaidSoModel", name := "isSmall", desc := "(I)Z" } : Jvm.MethodName) prog_18_method_9_code (2 : Nat) (Option.some Jvm.ClassFile.FieldType.boolean)) ∈ lw_all := lw_g (lw_at lw_m7 61 rfl) rfl
theorem q1640 : (Jvm.Cond.methodLink "SaidSoModel" (149 : Nat) ({ cls := "SaidSoModel", name := "wordAt", desc := "(II)I" } : Jvm.MethodName)) ∈ lw_all := lw_g (lw_at lw_m7 62 rfl) rfl
theorem q1641 : (Jvm.Cond.privateMethod ({ cls := "SaidSoModel", name := "wordAt", desc := "(II)I" } : Jvm.MethodName)) ∈ lw_tbl := lw_at lw_m7 63 rfl
theorem q1642 : (Jvm.Cond.instanceMethod ({ cls := "SaidSoModel", name := "wordAt", desc := "(II)I" } : Jvm.MethodName)) ∈ lw_all := lw_g (lw_at lw_m7 64 rfl) rfl
theorem q1643 : (Jvm.Cond.code ({ cls := "SaidSoModel", name := "wordAt", desc := "(II)I" } : Jvm.MethodName) prog_18_method_8_code (8 : Nat) (Option.some Jvm.ClassFile.FieldType.int)) ∈ lw_all := lw_g (lw_at lw_m7 65 rfl) rfl
theorem q1644 : (Jvm.Cond.methodLink "SaidSoModel" (156 : Nat) ({ cls := "SaidSoModel", name := "packed", desc := "(II)I" } : Jvm.MethodName)) ∈ lw_all := lw_g (lw_at lw_m7 66 rfl) rfl
theorem q1645 : (Jvm.Cond.privateMethod ({ cls := "SaidSoModel", name := "packed", desc := "(II)I" } : Jvm.MethodName)) ∈ lw_tbl := lw_at lw_m7 67 rfl
theorem q1646 : (Jvm.Cond.instanceMethod ({ cls := "SaidSoModel", name := "packed", desc := "(II)I" } : Jvm.MethodName)) ∈ lw_all := lw_g (lw_at lw_m7 68 rfl) rfl
theorem q1647 : (Jvm.Cond.code ({ cls := "SaidSoModel", name := "packed", desc := "(II)I" } : Jvm.MethodName) prog_18_method_13_code (5 : Nat) (Option.some Jvm.ClassFile.FieldType.int)) ∈ lw_all := lw_g (lw_at lw_m7 69 rfl) rfl
theorem q1648 : (Jvm.Cond.methodLink "SaidSoModel" (159 : Nat) ({ cls := "SaidSoModel", name := "isDigit", desc := "(I)Z" } : Jvm.MethodName)) ∈ lw_all := lw_g (lw_at lw_m7 70 rfl) rfl
theorem q1649 : (Jvm.Cond.privateMethod ({ cls := "SaidSoModel", name := "isDigit", desc := "(I)Z" } : Jvm.MethodName)) ∈ lw_tbl := lw_at lw_m7 71 rfl
theorem q1650 : (Jvm.Cond.instanceMethod ({ cls := "SaidSoModel", name := "isDigit", desc := "(I)Z" } : Jvm.MethodName)) ∈ lw_all := lw_g (lw_at lw_m7 72 rfl) rfl
theorem q1651 : (Jvm.Cond.code ({ cls := "SaidSoModel", name := "isDigit", desc := "(I)Z" } : Jvm.MethodName) prog_18_method_10_code (2 : Nat) (Option.some Jvm.ClassFile.FieldType.boolean)) ∈ lw_all := lw_g (lw_at lw_m7 73 rfl) rfl
theorem q1652 : (Jvm.Cond.methodLink "SaidSoModel" (162 : Nat) ({ cls := "SaidSoModel", name := "takeSign", desc := "()V" } : Jvm.MethodName)) ∈ lw_all := lw_g (lw_at lw_m7 74 rfl) rfl
theorem q1653 : (Jvm.Cond.privateMethod ({ cls := "SaidSoModel", name := "takeSign", desc := "()V" } : Jvm.MethodName)) ∈ lw_tbl := lw_at lw_m7 75 rfl
theorem q1654 : (Jvm.Cond.instanceMethod ({ cls := "SaidSoModel", name := "takeSign", desc := "()V" } : Jvm.MethodName)) ∈ lw_all := lw_g (lw_at lw_m7 76 rfl) rfl
theorem q1655 : (Jvm.Cond.code ({ cls := "SaidSoModel", name := "takeSign", desc := "()V" } : Jvm.MethodName) prog_18_method_12_code (4 : Nat) (Option.none : Option Jvm.ClassFile.FieldType)) ∈ lw_all := lw_g (lw_at lw_m7 77 rfl) rfl
theorem q1656 : (Jvm.Cond.methodLink "SaidSoModel" (306 : Nat) ({ cls := "SaidSoModel", name := "lineRead", desc := "()Z" } : Jvm.MethodName)) ∈ lw_all := lw_g (lw_at lw_m7 78 rfl) rfl
theorem q1657 : (Jvm.Cond.privateMethod ({ cls := "SaidSoModel", name := "lineRead", desc := "()Z" } : Jvm.MethodName)) ∈ lw_tbl := lw_at lw_m7 79 rfl
theorem q1658 : (Jvm.Cond.instanceMethod ({ cls := "SaidSoModel", name := "lineRead", desc := "()Z" } : Jvm.MethodName)) ∈ lw_all := lw_g (lw_at lw_m7 80 rfl) rfl
theorem q1659 : (Jvm.Cond.code ({ cls := "SaidSoModel", name := "lineRead", desc := "()Z" } : Jvm.MethodName) prog_18_method_38_code (2 : Nat) (Option.some Jvm.ClassFile.FieldType.boolean)) ∈ lw_all := lw_g (lw_at lw_m7 81 rfl) rfl
theorem q1660 : (Jvm.Cond.methodLink "SaidSoModel" (168 : Nat) ({ cls := "SaidSoModel", name := "wrong", desc := "(I)Z" } : Jvm.MethodName)) ∈ lw_all := lw_g (lw_at lw_m7 82 rfl) rfl
theorem q1661 : (Jvm.Cond.privateMethod ({ cls := "SaidSoModel", name := "wrong", desc := "(I)Z" } : Jvm.MethodName)) ∈ lw_tbl := lw_at lw_m7 83 rfl
theorem q1662 : (Jvm.Cond.instanceMethod ({ cls := "SaidSoModel", name := "wrong", desc := "(I)Z" } : Jvm.MethodName)) ∈ lw_all := lw_g (lw_at lw_m7 84 rfl) rfl
theorem q1663 : (Jvm.Cond.code ({ cls := "SaidSoModel", name := "wrong", desc := "(I)Z" } : Jvm.MethodName) prog_18_method_7_code (2 : Nat) (Option.some Jvm.ClassFile.FieldType.boolean)) ∈ lw_all := lw_g (lw_at lw_m7 85 rfl) rfl
theorem q1664 : (Jvm.Cond.methodLink "SaidSoModel" (290 : Nat) ({ cls := "SaidSoModel", name := "thingLine", desc := "()Z" } : Jvm.MethodName)) ∈ lw_all := lw_g (lw_at lw_m7 86 rfl) rfl
theorem q1665 : (Jvm.Cond.privateMethod ({ cls := "SaidSoModel", name := "thingLine", desc := "()Z" } : Jvm.MethodName)) ∈ lw_tbl := lw_at lw_m7 87 rfl
theorem q1666 : (Jvm.Cond.instanceMethod ({ cls := "SaidSoModel", name := "thingLine", desc := "()Z" } : Jvm.MethodName)) ∈ lw_all := lw_g (lw_at lw_m7 88 rfl) rfl
theorem q1667 : (Jvm.Cond.code ({ cls := "SaidSoModel", name := "thingLine", desc := "()Z" } : Jvm.MethodName) prog_18_method_23_code (4 : Nat) (Option.some Jvm.ClassFile.FieldType.boolean)) ∈ lw_all := lw_g (lw_at lw_m7 89 rfl) rfl
theorem q1668 : (Jvm.Cond.methodLink "SaidSoModel" (224 : Nat) ({ cls := "SaidSoModel", name := "newName", desc := "([III)Z" } : Jvm.MethodName)) ∈ lw_all := lw_g (lw_at lw_m7 90 rfl) rfl
theorem q1669 : (Jvm.Cond.privateMethod ({ cls := "SaidSoModel", name := "newName", desc := "([III)Z" } : Jvm.MethodName)) ∈ lw_tbl := lw_at lw_m7 91 rfl
theorem q1670 : (Jvm.Cond.instanceMethod ({ cls := "SaidSoModel", name := "newName", desc := "([III)Z" } : Jvm.MethodName)) ∈ lw_all := lw_g (lw_at lw_m7 92 rfl) rfl
theorem q1671 : (Jvm.Cond.code ({ cls := "SaidSoModel", name := "newName", desc := "([III)Z" } : Jvm.MethodName) prog_18_method_22_code (4 : Nat) (Option.some Jvm.ClassFile.FieldType.boolean)) ∈ lw_all := lw_g (lw_at lw_m7 93 rfl) rfl
theorem q1672 : (Jvm.Cond.methodLink "SaidSoModel" (220 : Nat) ({ cls := "SaidSoModel", name := "find", desc := "([IIII)I" } : Jvm.MethodName)) ∈ lw_all := lw_g (lw_at lw_m7 94 rfl) rfl
theorem q1673 : (Jvm.Cond.privateMethod ({ cls := "SaidSoModel", name := "find", desc := "([IIII)I" } : Jvm.MethodName)) ∈ lw_tbl := lw_at lw_m7 95 rfl
theorem q1674 : (Jvm.Cond.instanceMethod ({ cls := "SaidSoModel", name := "find", desc := "([IIII)I" } : Jvm.MethodName)) ∈ lw_all := lw_g (lw_at lw_m7 96 rfl) rfl
theorem q1675 : (Jvm.Cond.code ({ cls := "SaidSoModel", name := "find", desc := "([IIII)I" } : Jvm.MethodName) prog_18_method_21_code (6 : Nat) (Option.some Jvm.ClassFile.FieldType.int)) ∈ lw_all := lw_g (lw_at lw_m7 97 rfl) rfl
theorem q1676 : (Jvm.Cond.methodLink "SaidSoModel" (228 : Nat) ({ cls := "SaidSoModel", name := "numberRead", desc := "(II)Z" } : Jvm.MethodName)) ∈ lw_all := lw_g (lw_at lw_m7 98 rfl) rfl
theorem q1677 : (Jvm.Cond.privateMethod ({ cls := "SaidSoModel", name := "numberRead", desc := "(II)Z" } : Jvm.MethodName)) ∈ lw_tbl := lw_at lw_m7 99 rfl
theorem q1678 : (Jvm.Cond.instanceMethod ({ cls := "SaidSoModel", name := "numberRead", desc := "(II)Z" } : Jvm.MethodName)) ∈ lw_all := lw_g (lw_at lw_m7 100 rfl) rfl
theorem q1679 : (Jvm.Cond.code ({ cls := "SaidSoModel", name := "numberRead", desc := "(II)Z" } : Jvm.MethodName) prog_18_method_17_code (3 : Nat) (Option.some Jvm.ClassFile.FieldType.boolean)) ∈ lw_all := lw_g (lw_at lw_m7 101 rfl) rfl
theorem q1680 : (Jvm.Cond.methodLink "SaidSoModel" (232 : Nat) ({ cls := "SaidSoModel", name := "keyRead", desc := "(I)Z" } : Jvm.MethodName)) ∈ lw_all := lw_g (lw_at lw_m7 102 rfl) rfl
theorem q1681 : (Jvm.Cond.privateMethod ({ cls := "SaidSoModel", name := "keyRead", desc := "(I)Z" } : Jvm.MethodName)) ∈ lw_tbl := lw_at lw_m7 103 rfl
theorem q1682 : (Jvm.Cond.instanceMethod ({ cls := "SaidSoModel", name := "keyRead", desc := "(I)Z" } : Jvm.MethodName)) ∈ lw_all := lw_g (lw_at lw_m7 104 rfl) rfl
theorem q1683 : (Jvm.Cond.code ({ cls := "SaidSoModel", name := "keyRead", desc := "(I)Z" } : Jvm.MethodName) prog_18_method_16_code (2 : Nat) (Option.some Jvm.ClassFile.FieldType.boolean)) ∈ lw_all := lw_g (lw_at lw_m7 105 rfl) rfl
theorem q1684 : (Jvm.Cond.methodLink "SaidSoModel" (165 : Nat) ({ cls := "SaidSoModel", name := "isKey", desc := "(I)Z" } : Jvm.MethodName)) ∈ lw_all := lw_g (lw_at lw_m7 106 rfl) rfl
theorem q1685 : (Jvm.Cond.privateMethod ({ cls := "SaidSoModel", name := "isKey", desc := "(I)Z" } : Jvm.MethodName)) ∈ lw_tbl := lw_at lw_m7 107 rfl
theorem q1686 : (Jvm.Cond.instanceMethod ({ cls := "SaidSoModel", name := "isKey", desc := "(I)Z" } : Jvm.MethodName)) ∈ lw_all := lw_g (lw_at lw_m7 108 rfl) rfl
theorem q1687 : (Jvm.Cond.code ({ cls := "SaidSoModel", name := "isKey", desc := "(I)Z" } : Jvm.MethodName) prog_18_method_14_code (2 : Nat) (Option.some Jvm.ClassFile.FieldType.boolean)) ∈ lw_all := lw_g (lw_at lw_m7 109 rfl) rfl
theorem q1688 : (Jvm.Cond.methodLink "SaidSoModel" (293 : Nat) ({ cls := "SaidSoModel", name := "tellerLine", desc := "()Z" } : Jvm.MethodName)) ∈ lw_all := lw_g (lw_at lw_m7 110 rfl) rfl
theorem q1689 : (Jvm.Cond.privateMethod ({ cls := "SaidSoModel", name := "tellerLine", desc := "()Z" } : Jvm.MethodName)) ∈ lw_tbl := lw_at lw_m7 111 rfl
theorem q1690 : (Jvm.Cond.instanceMethod ({ cls := "SaidSoModel", name := "tellerLine", desc := "()Z" } : Jvm.MethodName)) ∈ lw_all := lw_g (lw_at lw_m7 112 rfl) rfl
theorem q1691 : (Jvm.Cond.code ({ cls := "SaidSoModel", name := "tellerLine", desc := "()Z" } : Jvm.MethodName) prog_18_method_24_code (3 : Nat) (Option.some Jvm.ClassFile.FieldType.boolean)) ∈ lw_all := lw_g (lw_at lw_m7 113 rfl) rfl
theorem q1692 : (Jvm.Cond.methodLink "SaidSoModel" (296 : Nat) ({ cls := "SaidSoModel", name := "talkLine", desc := "(Z)Z" } : Jvm.MethodName)) ∈ lw_all := lw_g (lw_at lw_m7 114 rfl) rfl
theorem q1693 : (Jvm.Cond.privateMethod ({ cls := "SaidSoModel", name := "talkLine", desc := "(Z)Z" } : Jvm.MethodName)) ∈ lw_tbl := lw_at lw_m7 115 rfl
theorem q1694 : (Jvm.Cond.instanceMethod ({ cls := "SaidSoModel", name := "talkLine", desc := "(Z)Z" } : Jvm.MethodName)) ∈ lw_all := lw_g (lw_at lw_m7 116 rfl) rfl
theorem q1695 : (Jvm.Cond.code ({ cls := "SaidSoModel", name := "talkLine", desc := "(Z)Z" } : Jvm.MethodName) prog_18_method_27_code (7 : Nat) (Option.some Jvm.ClassFile.FieldType.boolean)) ∈ lw_all := lw_g (lw_at lw_m7 117 rfl) rfl
theorem q1696 : (Jvm.Cond.methodLink "SaidSoModel" (235 : Nat) ({ cls := "SaidSoModel", name := "there", desc := "([III)Z" } : Jvm.MethodName)) ∈ lw_all := lw_g (lw_at lw_m7 118 rfl) rfl
theorem q1697 : (Jvm.Cond.privateMethod ({ cls := "SaidSoModel", name := "there", desc := "([III)Z" } : Jvm.MethodName)) ∈ lw_tbl := lw_at lw_m7 119 rfl
theorem q1698 : (Jvm.Cond.instanceMethod ({ cls := "SaidSoModel", name := "there", desc := "([III)Z" } : Jvm.MethodName)) ∈ lw_all := lw_g (lw_at lw_m7 120 rfl) rfl
theorem q1699 : (Jvm.Cond.code ({ cls := "SaidSoModel", name := "there", desc := "([III)Z" } : Jvm.MethodName) prog_18_method_25_code (4 : Nat) (Option.some Jvm.ClassFile.FieldType.boolean)) ∈ lw_all := lw_g (lw_at lw_m7 121 rfl) rfl
theorem q1700 : (Jvm.Cond.methodLink "SaidSoModel" (238 : Nat) ({ cls := "SaidSoModel", name := "latestHour", desc := "(III)I" } : Jvm.MethodName)) ∈ lw_all := lw_g (lw_at lw_m7 122 rfl) rfl
theorem q1701 : (Jvm.Cond.privateMethod ({ cls := "SaidSoModel", name := "latestHour", desc := "(III)I" } : Jvm.MethodName)) ∈ lw_tbl := lw_at lw_m7 123 rfl
theorem q1702 : (Jvm.Cond.instanceMethod ({ cls := "SaidSoModel", name := "latestHour", desc := "(III)I" } : Jvm.MethodName)) ∈ lw_all := lw_g (lw_at lw_m7 124 rfl) rfl
theorem q1703 : (Jvm.Cond.code ({ cls := "SaidSoModel", name := "latestHour", desc := "(III)I" } : Jvm.MethodName) prog_18_method_26_code (6 : Nat) (Option.some Jvm.ClassFile.FieldType.int)) ∈ lw_all := lw_g (lw_at lw_m7 125 rfl) rfl
theorem q1704 : (Jvm.Cond.methodLink "SaidSoModel" (300 : Nat) ({ cls := "SaidSoModel", name := "pageLine", desc := "()Z" } : Jvm.MethodName)) ∈ lw_all := lw_g (lw_at lw_m7 126 rfl) rfl
theorem q1705 : (Jvm.Cond.privateMethod ({ cls := "SaidSoModel", name := "pageLine", desc := "()Z" } : Jvm.MethodName)) ∈ lw_tbl := lw_at lw_m7 127 rfl
theorem q1706 : (Jvm.Cond.instanceMethod ({ cls := "SaidSoModel", name := "pageLine", desc := "()Z" } : Jvm.MethodName)) ∈ lw_all := lw_g (lw_at lw_m7 128 rfl) rfl
theorem q1707 : (Jvm.Cond.code ({ cls := "SaidSoModel", name := "pageLine", desc := "()Z" } : Jvm.MethodName) prog_18_method_28_code (3 : Nat) (Option.some Jvm.ClassFile.FieldType.boolean)) ∈ lw_all := lw_g (lw_at lw_m7 129 rfl) rfl
theorem q1708 : (Jvm.Cond.methodLink "SaidSoModel" (303 : Nat) ({ cls := "SaidSoModel", name := "sumLine", desc := "()Z" } : Jvm.MethodName)) ∈ lw_all := lw_g (lw_at lw_m7 130 rfl) rfl
theorem q1709 : (Jvm.Cond.privateMethod ({ cls := "SaidSoModel", name := "sumLine", desc := "()Z" } : Jvm.MethodName)) ∈ lw_tbl := lw_at lw_m7 131 rfl
theorem q1710 : (Jvm.Cond.instanceMethod ({ cls := "SaidSoModel", name := "sumLine", desc := "()Z" } : Jvm.MethodName)) ∈ lw_all := lw_g (lw_at lw_m7 132 rfl) rfl
theorem q1711 : (Jvm.Cond.code ({ cls := "SaidSoModel", name := "sumLine", desc := "()Z" } : Jvm.MethodName) prog_18_method_37_code (2 : Nat) (Option.some Jvm.ClassFile.FieldType.boolean)) ∈ lw_all := lw_g (lw_at lw_m7 133 rfl) rfl
theorem q1712 : (Jvm.Cond.methodLink "SaidSoModel" (260 : Nat) ({ cls := "SaidSoModel", name := "isSign", desc := "(I)Z" } : Jvm.MethodName)) ∈ lw_all := lw_g (lw_at lw_m7 134 rfl) rfl
theorem q1713 : (Jvm.Cond.privateMethod ({ cls := "SaidSoModel", name := "isSign", desc := "(I)Z" } : Jvm.MethodName)) ∈ lw_tbl := lw_at lw_m7 135 rfl
theorem q1714 : (Jvm.Cond.instanceMethod ({ cls := "SaidSoModel", name := "isSign", desc := "(I)Z" } : Jvm.MethodName)) ∈ lw_all := lw_g (lw_at lw_m7 136 rfl) rfl
theorem q1715 : (Jvm.Cond.code ({ cls := "SaidSoModel", name := "isSign", desc := "(I)Z" } : Jvm.MethodName) prog_18_method_15_code (2 : Nat) (Option.some Jvm.ClassFile.FieldType.boolean)) ∈ lw_all := lw_g (lw_at lw_m7 137 rfl) rfl
theorem q1716 : (Jvm.Cond.methodLink "SaidSoModel" (284 : Nat) ({ cls := "SaidSoModel", name := "leafRead", desc := "()Z" } : Jvm.MethodName)) ∈ lw_all := lw_g (lw_at lw_m7 138 rfl) rfl
theorem q1717 : (Jvm.Cond.privateMethod ({ cls := "SaidSoModel", name := "leafRead", desc := "()Z" } : Jvm.MethodName)) ∈ lw_tbl := lw_at lw_m7 139 rfl
theorem q1718 : (Jvm.Cond.instanceMethod ({ cls := "SaidSoModel", name := "leafRead", desc := "()Z" } : Jvm.MethodName)) ∈ lw_all := lw_g (lw_at lw_m7 140 rfl) rfl
theorem q1719 : (Jvm.Cond.code ({ cls := "SaidSoModel", name := "leafRead", desc := "()Z" } : Jvm.MethodName) prog_18_method_35_code (2 : Nat) (Option.some Jvm.ClassFile.FieldType.boolean)) ∈ lw_all := lw_g (lw_at lw_m7 141 rfl) rfl
theorem q1720 : (Jvm.Cond.methodLink "SaidSoModel" (266 : Nat) ({ cls := "SaidSoModel", name := "waitsFor", desc := "(I)V" } : Jvm.MethodName)) ∈ lw_all := lw_g (lw_at lw_m7 142 rfl) rfl
theorem q1721 : (Jvm.Cond.privateMethod ({ cls := "SaidSoModel", name := "waitsFor", desc := "(I)V" } : Jvm.MethodName)) ∈ lw_tbl := lw_at lw_m7 143 rfl
theorem q1722 : (Jvm.Cond.instanceMethod ({ cls := "SaidSoModel", name := "waitsFor", desc := "(I)V" } : Jvm.MethodName)) ∈ lw_all := lw_g (lw_at lw_m7 144 rfl) rfl
theorem q1723 : (Jvm.Cond.code ({ cls := "SaidSoModel", name := "waitsFor", desc := "(I)V" } : Jvm.MethodName) prog_18_method_34_code (2 : Nat) (Option.none : Option Jvm.ClassFile.FieldType)) ∈ lw_all := lw_g (lw_at lw_m7 145 rfl) rfl
theorem q1724 : (Jvm.Cond.methodLink "SaidSoModel" (274 : Nat) ({ cls := "SaidSoModel", name := "isCounted", desc := "()Z" } : Jvm.MethodName)) ∈ lw_all := lw_g (lw_at lw_m7 146 rfl) rfl
theorem q1725 : (Jvm.Cond.privateMethod ({ cls := "SaidSoModel", name := "isCounted", desc := "()Z" } : Jvm.MethodName)) ∈ lw_tbl := lw_at lw_m7 147 rfl
theorem q1726 : (Jvm.Cond.instanceMethod ({ cls := "SaidSoModel", name := "isCounted", desc := "()Z" } : Jvm.MethodName)) ∈ lw_all := lw_g (lw_at lw_m7 148 rfl) rfl
theorem q1727 : (Jvm.Cond.code ({ cls := "SaidSoModel", name := "isCounted", desc := "()Z" } : Jvm.MethodName) prog_18_method_33_code (1 : Nat) (Option.some Jvm.ClassFile.FieldType.boolean)) ∈ lw_all := lw_g (lw_at lw_m7 149 rfl) rfl
theorem q1728 : (Jvm.Cond.methodLink "SaidSoModel" (256 : Nat) ({ cls := "SaidSoModel", name := "grown", desc := "(III)V" } : Jvm.MethodName)) ∈ lw_all := lw_g (lw_at lw_m7 150 rfl) rfl
theorem q1729 : (Jvm.Cond.privateMethod ({ cls := "SaidSoModel", name := "grown", desc := "(III)V" } : Jvm.MethodName)) ∈ lw_tbl := lw_at lw_m7 151 rfl
theorem q1730 : (Jvm.Cond.instanceMethod ({ cls := "SaidSoModel", name := "grown", desc := "(III)V" } : Jvm.MethodName)) ∈ lw_all := lw_g (lw_at lw_m7 152 rfl) rfl
theorem q1731 : (Jvm.Cond.code ({ cls := "SaidSoModel", name := "grown", desc := "(III)V" } : Jvm.MethodName) prog_18_method_30_code (4 : Nat) (Option.none : Option Jvm.ClassFile.FieldType)) ∈ lw_all := lw_g (lw_at lw_m7 153 rfl) rfl
theorem q1732 : (Jvm.Cond.methodLink "SaidSoModel" (287 : Nat) ({ cls := "SaidSoModel", name := "signs", desc := "()Z" } : Jvm.MethodName)) ∈ lw_all := lw_g (lw_at lw_m7 154 rfl) rfl
theorem q1733 : (Jvm.Cond.privateMethod ({ cls := "SaidSoModel", name := "signs", desc := "()Z" } : Jvm.MethodName)) ∈ lw_tbl := lw_at lw_m7 155 rfl
theorem q1734 : (Jvm.Cond.instanceMethod ({ cls := "SaidSoModel", name := "signs", desc := "()Z" } : Jvm.MethodName)) ∈ lw_all := lw_g (lw_at lw_m7 156 rfl) rfl
theorem q1735 : (Jvm.Cond.code ({ cls := "SaidSoModel", name := "signs", desc := "()Z" } : Jvm.MethodName) prog_18_method_36_code (2 : Nat) (Option.some Jvm.ClassFile.FieldType.boolean)) ∈ lw_all := lw_g (lw_at lw_m7 157 rfl) rfl
theorem q1736 : (Jvm.Cond.methodLink "SaidSoModel" (281 : Nat) ({ cls := "SaidSoModel", name := "bind", desc := "(I)V" } : Jvm.MethodName)) ∈ lw_all := lw_g (lw_at lw_m7 158 rfl) rfl
theorem q1737 : (Jvm.Cond.privateMethod ({ cls := "SaidSoModel", name := "bind", desc := "(I)V" } : Jvm.MethodName)) ∈ lw_tbl := lw_at lw_m7 159 rfl
theorem q1738 : (Jvm.Cond.instanceMethod ({ cls := "SaidSoModel", name := "bind", desc := "(I)V" } : Jvm.MethodName)) ∈ lw_all := lw_g (lw_at lw_m7 160 rfl) rfl
theorem q1739 : (Jvm.Cond.code ({ cls := "SaidSoModel", name := "bind", desc := "(I)V" } : Jvm.MethodName) prog_18_method_32_code (5 : Nat) (Option.none : Option Jvm.ClassFile.FieldType)) ∈ lw_all := lw_g (lw_at lw_m7 161 rfl) rfl
theorem q1740 : (Jvm.Cond.methodLink "SaidSoModel" (248 : Nat) ({ cls := "SaidSoModel", name := "weight", desc := "(I)I" } : Jvm.MethodName)) ∈ lw_all := lw_g (lw_at lw_m7 162 rfl) rfl
theorem q1741 : (Jvm.Cond.static ({ cls := "SaidSoModel", name := "weight", desc := "(I)I" } : Jvm.MethodName)) ∈ lw_all := lw_g (lw_at lw_m7 163 rfl) rfl
theorem q1742 : (Jvm.Cond.code ({ cls := "SaidSoModel", name := "weight", desc := "(I)I" } : Jvm.MethodName) prog_18_method_29_code (1 : Nat) (Option.some Jvm.ClassFile.FieldType.int)) ∈ lw_all := lw_g (lw_at lw_m7 164 rfl) rfl
theorem q1743 : (Jvm.Cond.methodLink "SaidSoModel" (252 : Nat) ({ cls := "SaidSoModel", name := "drop", desc := "()I" } : Jvm.MethodName)) ∈ lw_all := lw_g (lw_at lw_m7 165 rfl) rfl
theorem q1744 : (Jvm.Cond.privateMethod ({ cls := "SaidSoModel", name := "drop", desc := "()I" } : Jvm.MethodName)) ∈ lw_tbl := lw_at lw_m7 166 rfl
theorem q1745 : (Jvm.Cond.instanceMethod ({ cls := "SaidSoModel", name := "drop", desc := "()I" } : Jvm.MethodName)) ∈ lw_all := lw_g (lw_at lw_m7 167 rfl) rfl
theorem q1746 : (Jvm.Cond.code ({ cls := "SaidSoModel", name := "drop", desc := "()I" } : Jvm.MethodName) prog_18_method_31_code (1 : Nat) (Option.some Jvm.ClassFile.FieldType.int)) ∈ lw_all := lw_g (lw_at lw_m7 168 rfl) rfl
theorem q1748 : (Jvm.Cond.instanceMethod ({ cls := "SaidSoModel", name := "fault", desc := "(I)I" } : Jvm.MethodName)) ∈ lw_all := lw_g (lw_at lw_m7 170 rfl) rfl
theorem q1749 : (Jvm.Cond.selects "SaidSoModel" ({ cls := "SaidSoModel", name := "fault", desc := "(I)I" } : Jvm.MethodName) ({ cls := "SaidSoModel", name := "fault", desc := "(I)I" } : Jvm.MethodName)) ∈ lw_all := lw_g (lw_at lw_m7 171 rfl) rfl
theorem q1750 : (Jvm.Cond.code ({ cls := "SaidSoModel", name := "fault", desc := "(I)I" } : Jvm.MethodName) prog_18_method_40_code (2 : Nat) (Option.some Jvm.ClassFile.FieldType.int)) ∈ lw_all := lw_g (lw_at lw_m7 172 rfl) rfl
theorem q1752 : (Jvm.Cond.instanceMethod ({ cls := "SaidSoModel", name := "named", desc := "(II)I" } : Jvm.MethodName)) ∈ lw_all := lw_g (lw_at lw_m7 174 rfl) rfl
theorem q1753 : (Jvm.Cond.selects "SaidSoModel" ({ cls := "SaidSoModel", name := "named", desc := "(II)I" } : Jvm.MethodName) ({ cls := "SaidSoModel", name := "named", desc := "(II)I" } : Jvm.MethodName)) ∈ lw_all := lw_g (lw_at lw_m7 175 rfl) rfl
theorem q1754 : (Jvm.Cond.code ({ cls := "SaidSoModel", name := "named", desc := "(II)I" } : Jvm.MethodName) prog_18_method_41_code (3 : Nat) (Option.some Jvm.ClassFile.FieldType.int)) ∈ lw_all := lw_g (lw_at lw_m7 176 rfl) rfl
theorem q1756 : (Jvm.Cond.instanceMethod ({ cls := "SaidSoModel", name := "look", desc := "(II)I" } : Jvm.MethodName)) ∈ lw_all := lw_g (lw_at lw_m7 178 rfl) rfl
theorem q1757 : (Jvm.Cond.selects "SaidSoModel" ({ cls := "SaidSoModel", name := "look", desc := "(II)I" } : Jvm.MethodName) ({ cls := "SaidSoModel", name := "look", desc := "(II)I" } : Jvm.MethodName)) ∈ lw_all := lw_g (lw_at lw_m7 179 rfl) rfl
theorem q1758 : (Jvm.Cond.code ({ cls := "SaidSoModel", name := "look", desc := "(II)I" } : Jvm.MethodName) prog_18_method_45_code (3 : Nat) (Option.some Jvm.ClassFile.FieldType.int)) ∈ lw_all := lw_g (lw_at lw_m7 180 rfl) rfl
theorem q1759 : (Jvm.Cond.methodLink "SaidSoModel" (309 : Nat) ({ cls := "SaidSoModel", name := "isThing", desc := "(I)Z" } : Jvm.MethodName)) ∈ lw_all := lw_g (lw_at lw_m7 181 rfl) rfl
theorem q1760 : (Jvm.Cond.privateMethod ({ cls := "SaidSoModel", name := "isThing", desc := "(I)Z" } : Jvm.MethodName)) ∈ lw_tbl := lw_at lw_m7 182 rfl
theorem q1761 : (Jvm.Cond.instanceMethod ({ cls := "SaidSoModel", name := "isThing", desc := "(I)Z" } : Jvm.MethodName)) ∈ lw_all := lw_g (lw_at lw_m7 183 rfl) rfl
theorem q1762 : (Jvm.Cond.code ({ cls := "SaidSoModel", name := "isThing", desc := "(I)Z" } : Jvm.MethodName) prog_18_method_42_code (2 : Nat) (Option.some Jvm.ClassFile.FieldType.boolean)) ∈ lw_all := lw_g (lw_at lw_m7 184 rfl) rfl
theorem q1763 : (Jvm.Cond.methodLink "SaidSoModel" (312 : Nat) ({ cls := "SaidSoModel", name := "fails", desc := "(I)I" } : Jvm.MethodName)) ∈ lw_all := lw_g (lw_at lw_m7 185 rfl) rfl
theorem q1764 : (Jvm.Cond.privateMethod ({ cls := "SaidSoModel", name := "fails", desc := "(I)I" } : Jvm.MethodName)) ∈ lw_tbl := lw_at lw_m7 186 rfl
theorem q1765 : (Jvm.Cond.instanceMethod ({ cls := "SaidSoModel", name := "fails", desc := "(I)I" } : Jvm.MethodName)) ∈ lw_all := lw_g (lw_at lw_m7 187 rfl) rfl
theorem q1766 : (Jvm.Cond.code ({ cls := "SaidSoModel", name := "fails", desc := "(I)I" } : Jvm.MethodName) prog_18_method_44_code (2 : Nat) (Option.some Jvm.ClassFile.FieldType.int)) ∈ lw_all := lw_g (lw_at lw_m7 188 rfl) rfl
theorem q1768 : (Jvm.Cond.instanceMethod ({ cls := "SaidSoModel", name := "teller", desc := "(II)I" } : Jvm.MethodName)) ∈ lw_all := lw_g (lw_at lw_m7 190 rfl) rfl
theorem q1769 : (Jvm.Cond.selects "SaidSoModel" ({ cls := "SaidSoModel", name := "teller", desc := "(II)I" } : Jvm.MethodName) ({ cls := "SaidSoModel", name := "teller", desc := "(II)I" } : Jvm.MethodName)) ∈ lw_all := lw_g (lw_at lw_m7 191 rfl) rfl
theorem q1770 : (Jvm.Cond.code ({ cls := "SaidSoModel", name := "teller", desc := "(II)I" } : Jvm.MethodName) prog_18_method_46_code (3 : Nat) (Option.some Jvm.ClassFile.FieldType.int)) ∈ lw_all := lw_g (lw_at lw_m7 192 rfl) rfl
theorem q1771 : (Jvm.Cond.methodLink "SaidSoModel" (315 : Nat) ({ cls := "SaidSoModel", name := "isTeller", desc := "(I)Z" } : Jvm.MethodName)) ∈ lw_all := lw_g (lw_at lw_m7 193 rfl) rfl
theorem q1772 : (Jvm.Cond.privateMethod ({ cls := "SaidSoModel", name := "isTeller", desc := "(I)Z" } : Jvm.MethodName)) ∈ lw_tbl := lw_at lw_m7 194 rfl
theorem q1773 : (Jvm.Cond.instanceMethod ({ cls := "SaidSoModel", name := "isTeller", desc := "(I)Z" } : Jvm.MethodName)) ∈ lw_all := lw_g (lw_at lw_m7 195 rfl) rfl
theorem q1774 : (Jvm.Cond.code ({ cls := "SaidSoModel", name := "isTeller", desc := "(I)Z" } : Jvm.MethodName) prog_18_method_43_code (2 : Nat) (Option.some Jvm.ClassFile.FieldType.boolean)) ∈ lw_all := lw_g (lw_at lw_m7 196 rfl) rfl
theorem q1776 : (Jvm.Cond.instanceMethod ({ cls := "SaidSoModel", name := "line", desc := "(II)I" } : Jvm.MethodName)) ∈ lw_all := lw_g (lw_at lw_m7 198 rfl) rfl
theorem q1777 : (Jvm.Cond.selects "SaidSoModel" ({ cls := "SaidSoModel", name := "line", desc := "(II)I" } : Jvm.MethodName) ({ cls := "SaidSoModel", name := "line", desc := "(II)I" } : Jvm.MethodName)) ∈ lw_all := lw_g (lw_at lw_m7 199 rfl) rfl
theorem q1778 : (Jvm.Cond.code ({ cls := "SaidSoModel", name := "line", desc := "(II)I" } : Jvm.MethodName) prog_18_method_51_code (3 : Nat) (Option.some Jvm.ClassFile.FieldType.int)) ∈ lw_all := lw_g (lw_at lw_m7 200 rfl) rfl
theorem q1779 : (Jvm.Cond.methodLink "SaidSoModel" (318 : Nat) ({ cls := "SaidSoModel", name := "isHeard", desc := "(I)Z" } : Jvm.MethodName)) ∈ lw_all := lw_g (lw_at lw_m7 201 rfl) rfl
theorem q1780 : (Jvm.Cond.privateMethod ({ cls := "SaidSoModel", name := "isHeard", desc := "(I)Z" } : Jvm.MethodName)) ∈ lw_tbl := lw_at lw_m7 202 rfl
theorem q1781 : (Jvm.Cond.instanceMethod ({ cls := "SaidSoModel", name := "isHeard", desc := "(I)Z" } : Jvm.MethodName)) ∈ lw_all := lw_g (lw_at lw_m7 203 rfl) rfl
theorem q1782 : (Jvm.Cond.code ({ cls := "SaidSoModel", name := "isHeard", desc := "(I)Z" } : Jvm.MethodName) prog_18_method_47_code (2 : Nat) (Option.some Jvm.ClassFile.FieldType.boolean)) ∈ lw_all := lw_g (lw_at lw_m7 204 rfl) rfl
theorem q1784 : (Jvm.Cond.instanceMethod ({ cls := "SaidSoModel", name := "say", desc := "(ZIIII)I" } : Jvm.MethodName)) ∈ lw_all := lw_g (lw_at lw_m7 206 rfl) rfl
theorem q1785 : (Jvm.Cond.selects "SaidSoModel" ({ cls := "SaidSoModel", name := "say", desc := "(ZIIII)I" } : Jvm.MethodName) ({ cls := "SaidSoModel", name := "say", desc := "(ZIIII)I" } : Jvm.MethodName)) ∈ lw_all := lw_g (lw_at lw_m7 207 rfl) rfl
theorem q1786 : (Jvm.Cond.code ({ cls := "SaidSoModel", name := "say", desc := "(ZIIII)I" } : Jvm.MethodName) prog_18_method_52_code (6 : Nat) (Option.some Jvm.ClassFile.FieldType.int)) ∈ lw_all := lw_g (lw_at lw_m7 208 rfl) rfl
theorem q1788 : (Jvm.Cond.instanceMethod ({ cls := "SaidSoModel", name := "undo", desc := "()I" } : Jvm.MethodName)) ∈ lw_all := lw_g (lw_at lw_m7 210 rfl) rfl
theorem q1789 : (Jvm.Cond.selects "SaidSoModel" ({ cls := "SaidSoModel", name := "undo", desc := "()I" } : Jvm.MethodName) ({ cls := "SaidSoModel", name := "undo", desc := "()I" } : Jvm.MethodName)) ∈ lw_all := lw_g (lw_at lw_m7 211 rfl) rfl
theorem q1790 : (Jvm.Cond.code ({ cls := "SaidSoModel", name := "undo", desc := "()I" } : Jvm.MethodName) prog_18_method_53_code (1 : Nat) (Option.some Jvm.ClassFile.FieldType.int)) ∈ lw_all := lw_g (lw_at lw_m7 212 rfl) rfl
theorem q1792 : (Jvm.Cond.instanceMethod ({ cls := "SaidSoModel", name := "hear", desc := "(I)I" } : Jvm.MethodName)) ∈ lw_all := lw_g (lw_at lw_m7 214 rfl) rfl
theorem q1793 : (Jvm.Cond.selects "SaidSoModel" ({ cls := "SaidSoModel", name := "hear", desc := "(I)I" } : Jvm.MethodName) ({ cls := "SaidSoModel", name := "hear", desc := "(I)I" } : Jvm.MethodName)) ∈ lw_all := lw_g (lw_at lw_m7 215 rfl) rfl
theorem q1794 : (Jvm.Cond.code ({ cls := "SaidSoModel", name := "hear", desc := "(I)I" } : Jvm.MethodName) prog_18_method_55_code (2 : Nat) (Option.some Jvm.ClassFile.FieldType.int)) ∈ lw_all := lw_g (lw_at lw_m7 216 rfl) rfl
theorem q1795 : (Jvm.Cond.methodLink "SaidSoModel" (324 : Nat) ({ cls := "SaidSoModel", name := "isIn", desc := "(III)Z" } : Jvm.MethodName)) ∈ lw_all := lw_g (lw_at lw_m7 217 rfl) rfl
theorem q1796 : (Jvm.Cond.static ({ cls := "SaidSoModel", name := "isIn", desc := "(III)Z" } : Jvm.MethodName)) ∈ lw_all := lw_g (lw_at lw_m7 218 rfl) rfl
theorem q1797 : (Jvm.Cond.code ({ cls := "SaidSoModel", name := "isIn", desc := "(III)Z" } : Jvm.MethodName) prog_18_method_4_code (3 : Nat) (Option.some Jvm.ClassFile.FieldType.boolean)) ∈ lw_all := lw_g (lw_at lw_m7 219 rfl) rfl
theorem q1798 : (Jvm.Cond.methodLink "SaidSoModel" (328 : Nat) ({ cls := "SaidSoModel", name := "heardMany", desc := "()I" } : Jvm.MethodName)) ∈ lw_all := lw_g (lw_at lw_m7 220 rfl) rfl
theorem q1799 : (Jvm.Cond.privateMethod ({ cls := "SaidSoModel", name := "heardMany", desc := "()I" } : Jvm.MethodName)) ∈ lw_tbl := lw_at lw_m7 221 rfl
theorem q1800 : (Jvm.Cond.instanceMethod ({ cls := "SaidSoModel", name := "heardMany", desc := "()I" } : Jvm.MethodName)) ∈ lw_all := lw_g (lw_at lw_m7 222 rfl) rfl
theorem q1801 : (Jvm.Cond.code ({ cls := "SaidSoModel", name := "heardMany", desc := "()I" } : Jvm.MethodName) prog_18_method_54_code (3 : Nat) (Option.some Jvm.ClassFile.FieldType.int)) ∈ lw_all := lw_g (lw_at lw_m7 223 rfl) rfl
theorem q1803 : (Jvm.Cond.instanceMethod ({ cls := "SaidSoModel", name := "word", desc := "(I)I" } : Jvm.MethodName)) ∈ lw_all := lw_g (lw_at lw_m7 225 rfl) rfl
theorem q1804 : (Jvm.Cond.selects "SaidSoModel" ({ cls := "SaidSoModel", name := "word", desc := "(I)I" } : Jvm.MethodName) ({ cls := "SaidSoModel", name := "word", desc := "(I)I" } : Jvm.MethodName)) ∈ lw_all := lw_g (lw_at lw_m7 226 rfl) rfl
theorem q1805 : (Jvm.Cond.code ({ cls := "SaidSoModel", name := "word", desc := "(I)I" } : Jvm.MethodName) prog_18_method_63_code (2 : Nat) (Option.some Jvm.ClassFile.FieldType.int)) ∈ lw_all := lw_g (lw_at lw_m7 227 rfl) rfl
theorem q1806 : (Jvm.Cond.methodLink "SaidSoModel" (321 : Nat) ({ cls := "SaidSoModel", name := "isHeardWord", desc := "(I)Z" } : Jvm.MethodName)) ∈ lw_all := lw_g (lw_at lw_m7 228 rfl) rfl
theorem q1807 : (Jvm.Cond.privateMethod ({ cls := "SaidSoModel", name := "isHeardWord", desc := "(I)Z" } : Jvm.MethodName)) ∈ lw_tbl := lw_at lw_m7 229 rfl
theorem q1808 : (Jvm.Cond.instanceMethod ({ cls := "SaidSoModel", name := "isHeardWord", desc := "(I)Z" } : Jvm.MethodName)) ∈ lw_all := lw_g (lw_at lw_m7 230 rfl) rfl
theorem q1809 : (Jvm.Cond.code ({ cls := "SaidSoModel", name := "isHeardWord", desc := "(I)Z" } : Jvm.MethodName) prog_18_method_48_code (2 : Nat) (Option.some Jvm.ClassFile.FieldType.boolean)) ∈ lw_all := lw_g (lw_at lw_m7 231 rfl) rfl
theorem q1810 : (Jvm.Cond.methodLink "SaidSoModel" (355 : Nat) ({ cls := "SaidSoModel", name := "whatIs", desc := "(I)I" } : Jvm.MethodName)) ∈ lw_all := lw_g (lw_at lw_m7 232 rfl) rfl
theorem q1811 : (Jvm.Cond.privateMethod ({ cls := "SaidSoModel", name := "whatIs", desc := "(I)I" } : Jvm.MethodName)) ∈ lw_tbl := lw_at lw_m7 233 rfl
theorem q1812 : (Jvm.Cond.instanceMethod ({ cls := "SaidSoModel", name := "whatIs", desc := "(I)I" } : Jvm.MethodName)) ∈ lw_all := lw_g (lw_at lw_m7 234 rfl) rfl
theorem q1813 : (Jvm.Cond.code ({ cls := "SaidSoModel", name := "whatIs", desc := "(I)I" } : Jvm.MethodName) prog_18_method_62_code (11 : Nat) (Option.some Jvm.ClassFile.FieldType.int)) ∈ lw_all := lw_g (lw_at lw_m7 235 rfl) rfl
theorem q1814 : (Jvm.Cond.methodLink "SaidSoModel" (343 : Nat) ({ cls := "SaidSoModel", name := "isRight", desc := "(I)Z" } : Jvm.MethodName)) ∈ lw_all := lw_g (lw_at lw_m7 236 rfl) rfl
theorem q1815 : (Jvm.Cond.privateMethod ({ cls := "SaidSoModel", name := "isRight", desc := "(I)Z" } : Jvm.MethodName)) ∈ lw_tbl := lw_at lw_m7 237 rfl
theorem q1816 : (Jvm.Cond.instanceMethod ({ cls := "SaidSoModel", name := "isRight", desc := "(I)Z" } : Jvm.MethodName)) ∈ lw_all := lw_g (lw_at lw_m7 238 rfl) rfl
theorem q1817 : (Jvm.Cond.code ({ cls := "SaidSoModel", name := "isRight", desc := "(I)Z" } : Jvm.MethodName) prog_18_method_56_code (2 : Nat) (Option.some Jvm.ClassFile.FieldType.boolean)) ∈ lw_all := lw_g (lw_at lw_m7 239 rfl) rfl
theorem q1818 : (Jvm.Cond.methodLink "SaidSoModel" (340 : Nat) ({ cls := "SaidSoModel", name := "had", desc := "(II)Z" } : Jvm.MethodName)) ∈ lw_all := lw_g (lw_at lw_m8 0 rfl) rfl
theorem q1819 : (Jvm.Cond.static ({ cls := "SaidSoModel", name := "had", desc := "(II)Z" } : Jvm.MethodName)) ∈ lw_all := lw_g (lw_at lw_m8 1 rfl) rfl
theorem q1820 : (Jvm.Cond.code ({ cls := "SaidSoModel", name := "had", desc := "(II)Z" } : Jvm.MethodName) prog_18_method_60_code (2 : Nat) (Option.some Jvm.ClassFile.FieldType.boolean)) ∈ lw_all := lw_g (lw_at lw_m8 2 rfl) rfl
theorem q1821 : (Jvm.Cond.methodLink "SaidSoModel" (346 : Nat) ({ cls := "SaidSoModel", name := "isFirst", desc := "(I)Z" } : Jvm.MethodName)) ∈ lw_all := lw_g (lw_at lw_m8 3 rfl) rfl
theorem q1822 : (Jvm.Cond.privateMethod ({ cls := "SaidSoModel", name := "isFirst", desc := "(I)Z" } : Jvm.MethodName)) ∈ lw_tbl := lw_at lw_m8 4 rfl
theorem q1823 : (Jvm.Cond.instanceMethod ({ cls := "SaidSoModel", name := "isFirst", desc := "(I)Z" } : Jvm.MethodName)) ∈ lw_all := lw_g (lw_at lw_m8 5 rfl) rfl
theorem q1824 : (Jvm.Cond.code ({ cls := "SaidSoModel", name := "isFirst", desc := "(I)Z" } : Jvm.MethodName) prog_18_method_58_code (3 : Nat) (Option.some Jvm.ClassFile.FieldType.boolean)) ∈ lw_all := lw_g (lw_at lw_m8 6 rfl) rfl
theorem q1825 : (Jvm.Cond.methodLink "SaidSoModel" (331 : Nat) ({ cls := "SaidSoModel", name := "says", desc := "(III)Z" } : Jvm.MethodName)) ∈ lw_all := lw_g (lw_at lw_m8 7 rfl) rfl
theorem q1826 : (Jvm.Cond.privateMethod ({ cls := "SaidSoModel", name := "says", desc := "(III)Z" } : Jvm.MethodName)) ∈ lw_tbl := lw_at lw_m8 8 rfl
theorem q1827 : (Jvm.Cond.instanceMethod ({ cls := "SaidSoModel", name := "says", desc := "(III)Z" } : Jvm.MethodName)) ∈ lw_all := lw_g (lw_at lw_m8 9 rfl) rfl
theorem q1828 : (Jvm.Cond.code ({ cls := "SaidSoModel", name := "says", desc := "(III)Z" } : Jvm.MethodName) prog_18_method_49_code (4 : Nat) (Option.some Jvm.ClassFile.FieldType.boolean)) ∈ lw_all := lw_g (lw_at lw_m8 10 rfl) rfl
theorem q1829 : (Jvm.Cond.methodLink "SaidSoModel" (349 : Nat) ({ cls := "SaidSoModel", name := "ledBy", desc := "(I)I" } : Jvm.MethodName)) ∈ lw_all := lw_g (lw_at lw_m8 11 rfl) rfl
theorem q1830 : (Jvm.Cond.privateMethod ({ cls := "SaidSoModel", name := "ledBy", desc := "(I)I" } : Jvm.MethodName)) ∈ lw_tbl := lw_at lw_m8 12 rfl
theorem q1831 : (Jvm.Cond.instanceMethod ({ cls := "SaidSoModel", name := "ledBy", desc := "(I)I" } : Jvm.MethodName)) ∈ lw_all := lw_g (lw_at lw_m8 13 rfl) rfl
theorem q1832 : (Jvm.Cond.code ({ cls := "SaidSoModel", name := "ledBy", desc := "(I)I" } : Jvm.MethodName) prog_18_method_59_code (4 : Nat) (Option.some Jvm.ClassFile.FieldType.int)) ∈ lw_all := lw_g (lw_at lw_m8 14 rfl) rfl
theorem q1833 : (Jvm.Cond.methodLink "SaidSoModel" (334 : Nat) ({ cls := "SaidSoModel", name := "asks", desc := "(II)Z" } : Jvm.MethodName)) ∈ lw_all := lw_g (lw_at lw_m8 15 rfl) rfl
theorem q1834 : (Jvm.Cond.privateMethod ({ cls := "SaidSoModel", name := "asks", desc := "(II)Z" } : Jvm.MethodName)) ∈ lw_tbl := lw_at lw_m8 16 rfl
theorem q1835 : (Jvm.Cond.instanceMethod ({ cls := "SaidSoModel", name := "asks", desc := "(II)Z" } : Jvm.MethodName)) ∈ lw_all := lw_g (lw_at lw_m8 17 rfl) rfl
theorem q1836 : (Jvm.Cond.code ({ cls := "SaidSoModel", name := "asks", desc := "(II)Z" } : Jvm.MethodName) prog_18_method_50_code (3 : Nat) (Option.some Jvm.ClassFile.FieldType.boolean)) ∈ lw_all := lw_g (lw_at lw_m8 18 rfl) rfl
theorem q1837 : (Jvm.Cond.methodLink "SaidSoModel" (352 : Nat) ({ cls := "SaidSoModel", name := "isOff", desc := "(I)Z" } : Jvm.MethodName)) ∈ lw_all := lw_g (lw_at lw_m8 19 rfl) rfl
theorem q1838 : (Jvm.Cond.privateMethod ({ cls := "SaidSoModel", name := "isOff", desc := "(I)Z" } : Jvm.MethodName)) ∈ lw_tbl := lw_at lw_m8 20 rfl
theorem q1839 : (Jvm.Cond.instanceMethod ({ cls := "SaidSoModel", name := "isOff", desc := "(I)Z" } : Jvm.MethodName)) ∈ lw_all := lw_g (lw_at lw_m8 21 rfl) rfl
theorem q1840 : (Jvm.Cond.code ({ cls := "SaidSoModel", name := "isOff", desc := "(I)Z" } : Jvm.MethodName) prog_18_method_61_code (3 : Nat) (Option.some Jvm.ClassFile.FieldType.boolean)) ∈ lw_all := lw_g (lw_at lw_m8 22 rfl) rfl
theorem q1841 : (Jvm.Cond.methodLink "SaidSoModel" (337 : Nat) ({ cls := "SaidSoModel", name := "latestOff", desc := "(II)I" } : Jvm.MethodName)) ∈ lw_all := lw_g (lw_at lw_m8 23 rfl) rfl
theorem q1842 : (Jvm.Cond.privateMethod ({ cls := "SaidSoModel", name := "latestOff", desc := "(II)I" } : Jvm.MethodName)) ∈ lw_tbl := lw_at lw_m8 24 rfl
theorem q1843 : (Jvm.Cond.instanceMethod ({ cls := "SaidSoModel", name := "latestOff", desc := "(II)I" } : Jvm.MethodName)) ∈ lw_all := lw_g (lw_at lw_m8 25 rfl) rfl
theorem q1844 : (Jvm.Cond.code ({ cls := "SaidSoModel", name := "latestOff", desc := "(II)I" } : Jvm.MethodName) prog_18_method_57_code (3 : Nat) (Option.some Jvm.ClassFile.FieldType.int)) ∈ lw_all := lw_g (lw_at lw_m8 26 rfl) rfl
theorem q1846 : (Jvm.Cond.instanceMethod ({ cls := "SaidSoModel", name := "led", desc := "(I)I" } : Jvm.MethodName)) ∈ lw_all := lw_g (lw_at lw_m8 28 rfl) rfl
theorem q1847 : (Jvm.Cond.selects "SaidSoModel" ({ cls := "SaidSoModel", name := "led", desc := "(I)I" } : Jvm.MethodName) ({ cls := "SaidSoModel", name := "led", desc := "(I)I" } : Jvm.MethodName)) ∈ lw_all := lw_g (lw_at lw_m8 29 rfl) rfl
theorem q1848 : (Jvm.Cond.code ({ cls := "SaidSoModel", name := "led", desc := "(I)I" } : Jvm.MethodName) prog_18_method_64_code (2 : Nat) (Option.some Jvm.ClassFile.FieldType.int)) ∈ lw_all := lw_g (lw_at lw_m8 30 rfl) rfl
theorem q1850 : (Jvm.Cond.instanceMethod ({ cls := "SaidSoModel", name := "words", desc := "(II)I" } : Jvm.MethodName)) ∈ lw_all := lw_g (lw_at lw_m8 32 rfl) rfl
theorem q1851 : (Jvm.Cond.selects "SaidSoModel" ({ cls := "SaidSoModel", name := "words", desc := "(II)I" } : Jvm.MethodName) ({ cls := "SaidSoModel", name := "words", desc := "(II)I" } : Jvm.MethodName)) ∈ lw_all := lw_g (lw_at lw_m8 33 rfl) rfl
theorem q1852 : (Jvm.Cond.code ({ cls := "SaidSoModel", name := "words", desc := "(II)I" } : Jvm.MethodName) prog_18_method_65_code (5 : Nat) (Option.some Jvm.ClassFile.FieldType.int)) ∈ lw_all := lw_g (lw_at lw_m8 34 rfl) rfl
theorem q1854 : (Jvm.Cond.instanceMethod ({ cls := "SaidSoModel", name := "truth", desc := "(I)Z" } : Jvm.MethodName)) ∈ lw_all := lw_g (lw_at lw_m8 36 rfl) rfl
theorem q1855 : (Jvm.Cond.selects "SaidSoModel" ({ cls := "SaidSoModel", name := "truth", desc := "(I)Z" } : Jvm.MethodName) ({ cls := "SaidSoModel", name := "truth", desc := "(I)Z" } : Jvm.MethodName)) ∈ lw_all := lw_g (lw_at lw_m8 37 rfl) rfl
theorem q1856 : (Jvm.Cond.code ({ cls := "SaidSoModel", name := "truth", desc := "(I)Z" } : Jvm.MethodName) prog_18_method_69_code (2 : Nat) (Option.some Jvm.ClassFile.FieldType.boolean)) ∈ lw_all := lw_g (lw_at lw_m8 38 rfl) rfl
theorem q1858 : (Jvm.Cond.instanceMethod ({ cls := "SaidSoModel", name := "begin", desc := "(II)Z" } : Jvm.MethodName)) ∈ lw_all := lw_g (lw_at lw_m8 40 rfl) rfl
theorem q1859 : (Jvm.Cond.selects "SaidSoModel" ({ cls := "SaidSoModel", name := "begin", desc := "(II)Z" } : Jvm.MethodName) ({ cls := "SaidSoModel", name := "begin", desc := "(II)Z" } : Jvm.MethodName)) ∈ lw_all := lw_g (lw_at lw_m8 41 rfl) rfl
theorem q1860 : (Jvm.Cond.code ({ cls := "SaidSoModel", name := "begin", desc := "(II)Z" } : Jvm.MethodName) prog_18_method_70_code (3 : Nat) (Option.some Jvm.ClassFile.FieldType.boolean)) ∈ lw_all := lw_g (lw_at lw_m8 42 rfl) rfl
theorem q1862 : (Jvm.Cond.instanceMethod ({ cls := "SaidSoModel", name := "odds", desc := "(III)J" } : Jvm.MethodName)) ∈ lw_all := lw_g (lw_at lw_m8 44 rfl) rfl
theorem q1863 : (Jvm.Cond.selects "SaidSoModel" ({ cls := "SaidSoModel", name := "odds", desc := "(III)J" } : Jvm.MethodName) ({ cls := "SaidSoModel", name := "odds", desc := "(III)J" } : Jvm.MethodName)) ∈ lw_all := lw_g (lw_at lw_m8 45 rfl) rfl
theorem q1864 : (Jvm.Cond.code ({ cls := "SaidSoModel", name := "odds", desc := "(III)J" } : Jvm.MethodName) prog_18_method_72_code (6 : Nat) (Option.some Jvm.ClassFile.FieldType.long)) ∈ lw_all := lw_g (lw_at lw_m8 46 rfl) rfl
theorem q1865 : (Jvm.Cond.constantLong "SaidSoModel" (374 : Nat) (-1 : Int64)) ∈ lw_all := lw_g (lw_at lw_m8 47 rfl) rfl
theorem q1866 : (Jvm.Cond.methodLink "SaidSoModel" (371 : Nat) ({ cls := "SaidSoModel", name := "least", desc := "()V" } : Jvm.MethodName)) ∈ lw_all := lw_g (lw_at lw_m8 48 rfl) rfl
theorem q1867 : (Jvm.Cond.privateMethod ({ cls := "SaidSoModel", name := "least", desc := "()V" } : Jvm.MethodName)) ∈ lw_tbl := lw_at lw_m8 49 rfl
theorem q1868 : (Jvm.Cond.instanceMethod ({ cls := "SaidSoModel", name := "least", desc := "()V" } : Jvm.MethodName)) ∈ lw_all := lw_g (lw_at lw_m8 50 rfl) rfl
theorem q1869 : (Jvm.Cond.code ({ cls := "SaidSoModel", name := "least", desc := "()V" } : Jvm.MethodName) prog_18_method_67_code (3 : Nat) (Option.none : Option Jvm.ClassFile.FieldType)) ∈ lw_all := lw_g (lw_at lw_m8 51 rfl) rfl
theorem q1870 : (Jvm.Cond.methodLink "SaidSoModel" (365 : Nat) ({ cls := "SaidSoModel", name := "common", desc := "(JJ)J" } : Jvm.MethodName)) ∈ lw_all := lw_g (lw_at lw_m8 52 rfl) rfl
theorem q1871 : (Jvm.Cond.static ({ cls := "SaidSoModel", name := "common", desc := "(JJ)J" } : Jvm.MethodName)) ∈ lw_all := lw_g (lw_at lw_m8 53 rfl) rfl
theorem q1872 : (Jvm.Cond.code ({ cls := "SaidSoModel", name := "common", desc := "(JJ)J" } : Jvm.MethodName) prog_18_method_66_code (10 : Nat) (Option.some Jvm.ClassFile.FieldType.long)) ∈ lw_all := lw_g (lw_at lw_m8 54 rfl) rfl
theorem q1873 : (Jvm.Cond.methodLink "SaidSoModel" (376 : Nat) ({ cls := "SaidSoModel", name := "isFirstLine", desc := "(I)Z" } : Jvm.MethodName)) ∈ lw_all := lw_g (lw_at lw_m8 55 rfl) rfl
theorem q1874 : (Jvm.Cond.privateMethod ({ cls := "SaidSoModel", name := "isFirstLine", desc := "(I)Z" } : Jvm.MethodName)) ∈ lw_tbl := lw_at lw_m8 56 rfl
theorem q1875 : (Jvm.Cond.instanceMethod ({ cls := "SaidSoModel", name := "isFirstLine", desc := "(I)Z" } : Jvm.MethodName)) ∈ lw_all := lw_g (lw_at lw_m8 57 rfl) rfl
theorem q1876 : (Jvm.Cond.code ({ cls := "SaidSoModel", name := "isFirstLine", desc := "(I)Z" } : Jvm.MethodName) prog_18_method_71_code (3 : Nat) (Option.some Jvm.ClassFile.FieldType.boolean)) ∈ lw_all := lw_g (lw_at lw_m8 58 rfl) rfl
theorem q1877 : (Jvm.Cond.methodLink "SaidSoModel" (379 : Nat) ({ cls := "SaidSoModel", name := "weighs", desc := "(IZ)V" } : Jvm.MethodName)) ∈ lw_all := lw_g (lw_at lw_m8 59 rfl) rfl
theorem q1878 : (Jvm.Cond.privateMethod ({ cls := "SaidSoModel", name := "weighs", desc := "(IZ)V" } : Jvm.MethodName)) ∈ lw_tbl := lw_at lw_m8 60 rfl
theorem q1879 : (Jvm.Cond.instanceMethod ({ cls := "SaidSoModel", name := "weighs", desc := "(IZ)V" } : Jvm.MethodName)) ∈ lw_all := lw_g (lw_at lw_m8 61 rfl) rfl
theorem q1880 : (Jvm.Cond.code ({ cls := "SaidSoModel", name := "weighs", desc := "(IZ)V" } : Jvm.MethodName) prog_18_method_68_code (3 : Nat) (Option.none : Option Jvm.ClassFile.FieldType)) ∈ lw_all := lw_g (lw_at lw_m8 62 rfl) rfl
theorem q1881 : (Jvm.Cond.constantLong "SaidSoModel" (369 : Nat) (10 : Int64)) ∈ lw_all := lw_g (lw_at lw_m8 63 rfl) rfl
theorem q1883 : (Jvm.Cond.instanceMethod ({ cls := "SaidSoModel", name := "page", desc := "(I)I" } : Jvm.MethodName)) ∈ lw_all := lw_g (lw_at lw_m8 65 rfl) rfl
theorem q1884 : (Jvm.Cond.selects "SaidSoModel" ({ cls := "SaidSoModel", name := "page", desc := "(I)I" } : Jvm.MethodName) ({ cls := "SaidSoModel", name := "page", desc := "(I)I" } : Jvm.MethodName)) ∈ lw_all := lw_g (lw_at lw_m8 66 rfl) rfl
theorem q1885 : (Jvm.Cond.code ({ cls := "SaidSoModel", name := "page", desc := "(I)I" } : Jvm.MethodName) prog_18_method_76_code (2 : Nat) (Option.some Jvm.ClassFile.FieldType.int)) ∈ lw_all := lw_g (lw_at lw_m8 67 rfl) rfl
theorem q1886 : (Jvm.Cond.methodLink "SaidSoModel" (389 : Nat) ({ cls := "SaidSoModel", name := "pageIs", desc := "(I)I" } : Jvm.MethodName)) ∈ lw_all := lw_g (lw_at lw_m8 68 rfl) rfl
theorem q1887 : (Jvm.Cond.privateMethod ({ cls := "SaidSoModel", name := "pageIs", desc := "(I)I" } : Jvm.MethodName)) ∈ lw_tbl := lw_at lw_m8 69 rfl
theorem q1888 : (Jvm.Cond.instanceMethod ({ cls := "SaidSoModel", name := "pageIs", desc := "(I)I" } : Jvm.MethodName)) ∈ lw_all := lw_g (lw_at lw_m8 70 rfl) rfl
theorem q1889 : (Jvm.Cond.code ({ cls := "SaidSoModel", name := "pageIs", desc := "(I)I" } : Jvm.MethodName) prog_18_method_75_code (3 : Nat) (Option.some Jvm.ClassFile.FieldType.int)) ∈ lw_all := lw_g (lw_at lw_m8 71 rfl) rfl
theorem q1890 : (Jvm.Cond.methodLink "SaidSoModel" (383 : Nat) ({ cls := "SaidSoModel", name := "latestWord", desc := "(II)I" } : Jvm.MethodName)) ∈ lw_all := lw_g (lw_at lw_m8 72 rfl) rfl
theorem q1891 : (Jvm.Cond.privateMethod ({ cls := "SaidSoModel", name := "latestWord", desc := "(II)I" } : Jvm.MethodName)) ∈ lw_tbl := lw_at lw_m8 73 rfl
theorem q1892 : (Jvm.Cond.instanceMethod ({ cls := "SaidSoModel", name := "latestWord", desc := "(II)I" } : Jvm.MethodName)) ∈ lw_all := lw_g (lw_at lw_m8 74 rfl) rfl
theorem q1893 : (Jvm.Cond.code ({ cls := "SaidSoModel", name := "latestWord", desc := "(II)I" } : Jvm.MethodName) prog_18_method_73_code (5 : Nat) (Option.some Jvm.ClassFile.FieldType.int)) ∈ lw_all := lw_g (lw_at lw_m8 75 rfl) rfl
theorem q1894 : (Jvm.Cond.methodLink "SaidSoModel" (386 : Nat) ({ cls := "SaidSoModel", name := "firstSaid", desc := "(III)I" } : Jvm.MethodName)) ∈ lw_all := lw_g (lw_at lw_m8 76 rfl) rfl
theorem q1895 : (Jvm.Cond.privateMethod ({ cls := "SaidSoModel", name := "firstSaid", desc := "(III)I" } : Jvm.MethodName)) ∈ lw_tbl := lw_at lw_m8 77 rfl
theorem q1896 : (Jvm.Cond.instanceMethod ({ cls := "SaidSoModel", name := "firstSaid", desc := "(III)I" } : Jvm.MethodName)) ∈ lw_all := lw_g (lw_at lw_m8 78 rfl) rfl
theorem q1897 : (Jvm.Cond.code ({ cls := "SaidSoModel", name := "firstSaid", desc := "(III)I" } : Jvm.MethodName) prog_18_method_74_code (5 : Nat) (Option.some Jvm.ClassFile.FieldType.int)) ∈ lw_all := lw_g (lw_at lw_m8 79 rfl) rfl
theorem q1899 : (Jvm.Cond.instanceMethod ({ cls := "SaidSoModel", name := "left", desc := "(I)I" } : Jvm.MethodName)) ∈ lw_all := lw_g (lw_at lw_m8 81 rfl) rfl
theorem q1900 : (Jvm.Cond.selects "SaidSoModel" ({ cls := "SaidSoModel", name := "left", desc := "(I)I" } : Jvm.MethodName) ({ cls := "SaidSoModel", name := "left", desc := "(I)I" } : Jvm.MethodName)) ∈ lw_all := lw_g (lw_at lw_m8 82 rfl) rfl
theorem q1901 : (Jvm.Cond.code ({ cls := "SaidSoModel", name := "left", desc := "(I)I" } : Jvm.MethodName) prog_18_method_78_code (4 : Nat) (Option.some Jvm.ClassFile.FieldType.int)) ∈ lw_all := lw_g (lw_at lw_m8 83 rfl) rfl
theorem q1902 : (Jvm.Cond.methodLink "SaidSoModel" (392 : Nat) ({ cls := "SaidSoModel", name := "isOnPage", desc := "(III)Z" } : Jvm.MethodName)) ∈ lw_all := lw_g (lw_at lw_m8 84 rfl) rfl
theorem q1903 : (Jvm.Cond.privateMethod ({ cls := "SaidSoModel", name := "isOnPage", desc := "(III)Z" } : Jvm.MethodName)) ∈ lw_tbl := lw_at lw_m8 85 rfl
theorem q1904 : (Jvm.Cond.instanceMethod ({ cls := "SaidSoModel", name := "isOnPage", desc := "(III)Z" } : Jvm.MethodName)) ∈ lw_all := lw_g (lw_at lw_m8 86 rfl) rfl
theorem q1905 : (Jvm.Cond.code ({ cls := "SaidSoModel", name := "isOnPage", desc := "(III)Z" } : Jvm.MethodName) prog_18_method_77_code (5 : Nat) (Option.some Jvm.ClassFile.FieldType.boolean)) ∈ lw_all := lw_g (lw_at lw_m8 87 rfl) rfl
theorem q1907 : (Jvm.Cond.instanceMethod ({ cls := "SaidSoModel", name := "moved", desc := "(I)I" } : Jvm.MethodName)) ∈ lw_all := lw_g (lw_at lw_m8 89 rfl) rfl
theorem q1908 : (Jvm.Cond.selects "SaidSoModel" ({ cls := "SaidSoModel", name := "moved", desc := "(I)I" } : Jvm.MethodName) ({ cls := "SaidSoModel", name := "moved", desc := "(I)I" } : Jvm.MethodName)) ∈ lw_all := lw_g (lw_at lw_m8 90 rfl) rfl
theorem q1909 : (Jvm.Cond.code ({ cls := "SaidSoModel", name := "moved", desc := "(I)I" } : Jvm.MethodName) prog_18_method_79_code (6 : Nat) (Option.some Jvm.ClassFile.FieldType.int)) ∈ lw_all := lw_g (lw_at lw_m8 91 rfl) rfl
theorem q1911 : (Jvm.Cond.instanceMethod ({ cls := "SaidSoModel", name := "story", desc := "(II)I" } : Jvm.MethodName)) ∈ lw_all := lw_g (lw_at lw_m8 93 rfl) rfl
theorem q1912 : (Jvm.Cond.selects "SaidSoModel" ({ cls := "SaidSoModel", name := "story", desc := "(II)I" } : Jvm.MethodName) ({ cls := "SaidSoModel", name := "story", desc := "(II)I" } : Jvm.MethodName)) ∈ lw_all := lw_g (lw_at lw_m8 94 rfl) rfl
theorem q1913 : (Jvm.Cond.code ({ cls := "SaidSoModel", name := "story", desc := "(II)I" } : Jvm.MethodName) prog_18_method_81_code (3 : Nat) (Option.some Jvm.ClassFile.FieldType.int)) ∈ lw_all := lw_g (lw_at lw_m8 95 rfl) rfl
theorem q1914 : (Jvm.Cond.methodLink "SaidSoModel" (395 : Nat) ({ cls := "SaidSoModel", name := "storyOf", desc := "(II)I" } : Jvm.MethodName)) ∈ lw_all := lw_g (lw_at lw_m8 96 rfl) rfl
theorem q1915 : (Jvm.Cond.privateMethod ({ cls := "SaidSoModel", name := "storyOf", desc := "(II)I" } : Jvm.MethodName)) ∈ lw_tbl := lw_at lw_m8 97 rfl
theorem q1916 : (Jvm.Cond.instanceMethod ({ cls := "SaidSoModel", name := "storyOf", desc := "(II)I" } : Jvm.MethodName)) ∈ lw_all := lw_g (lw_at lw_m8 98 rfl) rfl
theorem q1917 : (Jvm.Cond.code ({ cls := "SaidSoModel", name := "storyOf", desc := "(II)I" } : Jvm.MethodName) prog_18_method_80_code (4 : Nat) (Option.some Jvm.ClassFile.FieldType.int)) ∈ lw_all := lw_g (lw_at lw_m8 99 rfl) rfl
theorem q1919 : (Jvm.Cond.instanceMethod ({ cls := "SaidSoModel", name := "clash", desc := "(II)I" } : Jvm.MethodName)) ∈ lw_all := lw_g (lw_at lw_m8 101 rfl) rfl
theorem q1920 : (Jvm.Cond.selects "SaidSoModel" ({ cls := "SaidSoModel", name := "clash", desc := "(II)I" } : Jvm.MethodName) ({ cls := "SaidSoModel", name := "clash", desc := "(II)I" } : Jvm.MethodName)) ∈ lw_all := lw_g (lw_at lw_m8 102 rfl) rfl
theorem q1921 : (Jvm.Cond.code ({ cls := "SaidSoModel", name := "clash", desc := "(II)I" } : Jvm.MethodName) prog_18_method_83_code (3 : Nat) (Option.some Jvm.ClassFile.FieldType.int)) ∈ lw_all := lw_g (lw_at lw_m8 103 rfl) rfl
theorem q1922 : (Jvm.Cond.methodLink "SaidSoModel" (398 : Nat) ({ cls := "SaidSoModel", name := "clashes", desc := "(II)I" } : Jvm.MethodName)) ∈ lw_all := lw_g (lw_at lw_m8 104 rfl) rfl
theorem q1923 : (Jvm.Cond.privateMethod ({ cls := "SaidSoModel", name := "clashes", desc := "(II)I" } : Jvm.MethodName)) ∈ lw_tbl := lw_at lw_m8 105 rfl
theorem q1924 : (Jvm.Cond.instanceMethod ({ cls := "SaidSoModel", name := "clashes", desc := "(II)I" } : Jvm.MethodName)) ∈ lw_all := lw_g (lw_at lw_m8 106 rfl) rfl
theorem q1925 : (Jvm.Cond.code ({ cls := "SaidSoModel", name := "clashes", desc := "(II)I" } : Jvm.MethodName) prog_18_method_82_code (7 : Nat) (Option.some Jvm.ClassFile.FieldType.int)) ∈ lw_all := lw_g (lw_at lw_m8 107 rfl) rfl
theorem q1927 : (Jvm.Cond.instanceMethod ({ cls := "SaidSoModel", name := "together", desc := "()I" } : Jvm.MethodName)) ∈ lw_all := lw_g (lw_at lw_m8 109 rfl) rfl
theorem q1928 : (Jvm.Cond.selects "SaidSoModel" ({ cls := "SaidSoModel", name := "together", desc := "()I" } : Jvm.MethodName) ({ cls := "SaidSoModel", name := "together", desc := "()I" } : Jvm.MethodName)) ∈ lw_all := lw_g (lw_at lw_m8 110 rfl) rfl
theorem q1929 : (Jvm.Cond.code ({ cls := "SaidSoModel", name := "together", desc := "()I" } : Jvm.MethodName) prog_18_method_84_code (6 : Nat) (Option.some Jvm.ClassFile.FieldType.int)) ∈ lw_all := lw_g (lw_at lw_m8 111 rfl) rfl
theorem q1930 : (Jvm.Cond.methodLink "SaidSoModel" (401 : Nat) ({ cls := "SaidSoModel", name := "isOf", desc := "(II)Z" } : Jvm.MethodName)) ∈ lw_all := lw_g (lw_at lw_m8 112 rfl) rfl
theorem q1931 : (Jvm.Cond.static ({ cls := "SaidSoModel", name := "isOf", desc := "(II)Z" } : Jvm.MethodName)) ∈ lw_all := lw_g (lw_at lw_m8 113 rfl) rfl
theorem q1932 : (Jvm.Cond.code ({ cls := "SaidSoModel", name := "isOf", desc := "(II)Z" } : Jvm.MethodName) prog_18_method_5_code (2 : Nat) (Option.some Jvm.ClassFile.FieldType.boolean)) ∈ lw_all := lw_g (lw_at lw_m8 114 rfl) rfl
theorem q1933 : (Jvm.Cond.methodLink "SaidSoModel" (404 : Nat) ({ cls := "SaidSoModel", name := "many", desc := "(I)I" } : Jvm.MethodName)) ∈ lw_all := lw_g (lw_at lw_m8 115 rfl) rfl
theorem q1934 : (Jvm.Cond.static ({ cls := "SaidSoModel", name := "many", desc := "(I)I" } : Jvm.MethodName)) ∈ lw_all := lw_g (lw_at lw_m8 116 rfl) rfl
theorem q1935 : (Jvm.Cond.code ({ cls := "SaidSoModel", name := "many", desc := "(I)I" } : Jvm.MethodName) prog_18_method_6_code (3 : Nat) (Option.some Jvm.ClassFile.FieldType.int)) ∈ lw_all := lw_g (lw_at lw_m8 117 rfl) rfl
theorem q1937 : (Jvm.Cond.instanceMethod ({ cls := "SaidSoModel", name := "lies", desc := "(I)I" } : Jvm.MethodName)) ∈ lw_all := lw_g (lw_at lw_m8 119 rfl) rfl
theorem q1938 : (Jvm.Cond.selects "SaidSoModel" ({ cls := "SaidSoModel", name := "lies", desc := "(I)I" } : Jvm.MethodName) ({ cls := "SaidSoModel", name := "lies", desc := "(I)I" } : Jvm.MethodName)) ∈ lw_all := lw_g (lw_at lw_m8 120 rfl) rfl
theorem q1939 : (Jvm.Cond.code ({ cls := "SaidSoModel", name := "lies", desc := "(I)I" } : Jvm.MethodName) prog_18_method_86_code (9 : Nat) (Option.some Jvm.ClassFile.FieldType.int)) ∈ lw_all := lw_g (lw_at lw_m8 121 rfl) rfl
theorem q1940 : (Jvm.Cond.methodLink "SaidSoModel" (407 : Nat) ({ cls := "SaidSoModel", name := "isSet", desc := "(I)Z" } : Jvm.MethodName)) ∈ lw_all := lw_g (lw_at lw_m8 122 rfl) rfl
theorem q1941 : (Jvm.Cond.privateMethod ({ cls := "SaidSoModel", name := "isSet", desc := "(I)Z" } : Jvm.MethodName)) ∈ lw_tbl := lw_at lw_m8 123 rfl
theorem q1942 : (Jvm.Cond.instanceMethod ({ cls := "SaidSoModel", name := "isSet", desc := "(I)Z" } : Jvm.MethodName)) ∈ lw_all := lw_g (lw_at lw_m8 124 rfl) rfl
theorem q1943 : (Jvm.Cond.code ({ cls := "SaidSoModel", name := "isSet", desc := "(I)Z" } : Jvm.MethodName) prog_18_method_85_code (2 : Nat) (Option.some Jvm.ClassFile.FieldType.boolean)) ∈ lw_all := lw_g (lw_at lw_m8 125 rfl) rfl
theorem q1945 : (Jvm.Cond.instanceMethod ({ cls := "SaidSoModel", name := "supposed", desc := "(I)I" } : Jvm.MethodName)) ∈ lw_all := lw_g (lw_at lw_m8 127 rfl) rfl
theorem q1946 : (Jvm.Cond.selects "SaidSoModel" ({ cls := "SaidSoModel", name := "supposed", desc := "(I)I" } : Jvm.MethodName) ({ cls := "SaidSoModel", name := "supposed", desc := "(I)I" } : Jvm.MethodName)) ∈ lw_all := lw_g (lw_at lw_m8 128 rfl) rfl
theorem q1947 : (Jvm.Cond.code ({ cls := "SaidSoModel", name := "supposed", desc := "(I)I" } : Jvm.MethodName) prog_18_method_89_code (4 : Nat) (Option.some Jvm.ClassFile.FieldType.int)) ∈ lw_all := lw_g (lw_at lw_m8 129 rfl) rfl
theorem q1948 : (Jvm.Cond.methodLink "SaidSoModel" (410 : Nat) ({ cls := "SaidSoModel", name := "isTaped", desc := "(I)Z" } : Jvm.MethodName)) ∈ lw_all := lw_g (lw_at lw_m8 130 rfl) rfl
theorem q1949 : (Jvm.Cond.privateMethod ({ cls := "SaidSoModel", name := "isTaped", desc := "(I)Z" } : Jvm.MethodName)) ∈ lw_tbl := lw_at lw_m8 131 rfl
theorem q1950 : (Jvm.Cond.instanceMethod ({ cls := "SaidSoModel", name := "isTaped", desc := "(I)Z" } : Jvm.MethodName)) ∈ lw_all := lw_g (lw_at lw_m8 132 rfl) rfl
theorem q1951 : (Jvm.Cond.code ({ cls := "SaidSoModel", name := "isTaped", desc := "(I)Z" } : Jvm.MethodName) prog_18_method_87_code (2 : Nat) (Option.some Jvm.ClassFile.FieldType.boolean)) ∈ lw_all := lw_g (lw_at lw_m8 133 rfl) rfl
theorem q1952 : (Jvm.Cond.methodLink "SaidSoModel" (413 : Nat) ({ cls := "SaidSoModel", name := "wasAsked", desc := "(I)Z" } : Jvm.MethodName)) ∈ lw_all := lw_g (lw_at lw_m8 134 rfl) rfl
theorem q1953 : (Jvm.Cond.privateMethod ({ cls := "SaidSoModel", name := "wasAsked", desc := "(I)Z" } : Jvm.MethodName)) ∈ lw_tbl := lw_at lw_m8 135 rfl
theorem q1954 : (Jvm.Cond.instanceMethod ({ cls := "SaidSoModel", name := "wasAsked", desc := "(I)Z" } : Jvm.MethodName)) ∈ lw_all := lw_g (lw_at lw_m8 136 rfl) rfl
theorem q1955 : (Jvm.Cond.code ({ cls := "SaidSoModel", name := "wasAsked", desc := "(I)Z" } : Jvm.MethodName) prog_18_method_88_code (3 : Nat) (Option.some Jvm.ClassFile.FieldType.boolean)) ∈ lw_all := lw_g (lw_at lw_m8 137 rfl) rfl
theorem q1957 : (Jvm.Cond.instanceMethod ({ cls := "SaidSoModel", name := "law", desc := "(I)I" } : Jvm.MethodName)) ∈ lw_all := lw_g (lw_at lw_m8 139 rfl) rfl
theorem q1958 : (Jvm.Cond.selects "SaidSoModel" ({ cls := "SaidSoModel", name := "law", desc := "(I)I" } : Jvm.MethodName) ({ cls := "SaidSoModel", name := "law", desc := "(I)I" } : Jvm.MethodName)) ∈ lw_all := lw_g (lw_at lw_m8 140 rfl) rfl
theorem q1959 : (Jvm.Cond.code ({ cls := "SaidSoModel", name := "law", desc := "(I)I" } : Jvm.MethodName) prog_18_method_100_code (2 : Nat) (Option.some Jvm.ClassFile.FieldType.int)) ∈ lw_all := lw_g (lw_at lw_m8 141 rfl) rfl
theorem q1960 : (Jvm.Cond.methodLink "SaidSoModel" (452 : Nat) ({ cls := "SaidSoModel", name := "lawAt", desc := "(I)I" } : Jvm.MethodName)) ∈ lw_all := lw_g (lw_at lw_m8 142 rfl) rfl
theorem q1961 : (Jvm.Cond.privateMethod ({ cls := "SaidSoModel", name := "lawAt", desc := "(I)I" } : Jvm.MethodName)) ∈ lw_tbl := lw_at lw_m8 143 rfl
theorem q1962 : (Jvm.Cond.instanceMethod ({ cls := "SaidSoModel", name := "lawAt", desc := "(I)I" } : Jvm.MethodName)) ∈ lw_all := lw_g (lw_at lw_m8 144 rfl) rfl
theorem q1963 : (Jvm.Cond.code ({ cls := "SaidSoModel", name := "lawAt", desc := "(I)I" } : Jvm.MethodName) prog_18_method_99_code (5 : Nat) (Option.some Jvm.ClassFile.FieldType.int)) ∈ lw_all := lw_g (lw_at lw_m8 145 rfl) rfl
theorem q1964 : (Jvm.Cond.methodLink "SaidSoModel" (438 : Nat) ({ cls := "SaidSoModel", name := "hasLine", desc := "(I)Z" } : Jvm.MethodName)) ∈ lw_all := lw_g (lw_at lw_m8 146 rfl) rfl
theorem q1965 : (Jvm.Cond.privateMethod ({ cls := "SaidSoModel", name := "hasLine", desc := "(I)Z" } : Jvm.MethodName)) ∈ lw_tbl := lw_at lw_m8 147 rfl
theorem q1966 : (Jvm.Cond.instanceMethod ({ cls := "SaidSoModel", name := "hasLine", desc := "(I)Z" } : Jvm.MethodName)) ∈ lw_all := lw_g (lw_at lw_m8 148 rfl) rfl
theorem q1967 : (Jvm.Cond.code ({ cls := "SaidSoModel", name := "hasLine", desc := "(I)Z" } : Jvm.MethodName) prog_18_method_94_code (2 : Nat) (Option.some Jvm.ClassFile.FieldType.boolean)) ∈ lw_all := lw_g (lw_at lw_m8 149 rfl) rfl
theorem q1968 : (Jvm.Cond.methodLink "SaidSoModel" (444 : Nat) ({ cls := "SaidSoModel", name := "noNames", desc := "(I)V" } : Jvm.MethodName)) ∈ lw_all := lw_g (lw_at lw_m8 150 rfl) rfl
theorem q1969 : (Jvm.Cond.privateMethod ({ cls := "SaidSoModel", name := "noNames", desc := "(I)V" } : Jvm.MethodName)) ∈ lw_tbl := lw_at lw_m8 151 rfl
theorem q1970 : (Jvm.Cond.instanceMethod ({ cls := "SaidSoModel", name := "noNames", desc := "(I)V" } : Jvm.MethodName)) ∈ lw_all := lw_g (lw_at lw_m8 152 rfl) rfl
theorem q1971 : (Jvm.Cond.code ({ cls := "SaidSoModel", name := "noNames", desc := "(I)V" } : Jvm.MethodName) prog_18_method_97_code (3 : Nat) (Option.none : Option Jvm.ClassFile.FieldType)) ∈ lw_all := lw_g (lw_at lw_m8 153 rfl) rfl
theorem q1972 : (Jvm.Cond.methodLink "SaidSoModel" (447 : Nat) ({ cls := "SaidSoModel", name := "offUpTo", desc := "(II)I" } : Jvm.MethodName)) ∈ lw_all := lw_g (lw_at lw_m8 154 rfl) rfl
theorem q1973 : (Jvm.Cond.privateMethod ({ cls := "SaidSoModel", name := "offUpTo", desc := "(II)I" } : Jvm.MethodName)) ∈ lw_tbl := lw_at lw_m8 155 rfl
theorem q1974 : (Jvm.Cond.instanceMethod ({ cls := "SaidSoModel", name := "offUpTo", desc := "(II)I" } : Jvm.MethodName)) ∈ lw_all := lw_g (lw_at lw_m8 156 rfl) rfl
theorem q1975 : (Jvm.Cond.code ({ cls := "SaidSoModel", name := "offUpTo", desc := "(II)I" } : Jvm.MethodName) prog_18_method_98_code (4 : Nat) (Option.some Jvm.ClassFile.FieldType.int)) ∈ lw_all := lw_g (lw_at lw_m8 157 rfl) rfl
theorem q1976 : (Jvm.Cond.methodLink "SaidSoModel" (441 : Nat) ({ cls := "SaidSoModel", name := "sumOf", desc := "(I)J" } : Jvm.MethodName)) ∈ lw_all := lw_g (lw_at lw_m8 158 rfl) rfl
theorem q1977 : (Jvm.Cond.privateMethod ({ cls := "SaidSoModel", name := "sumOf", desc := "(I)J" } : Jvm.MethodName)) ∈ lw_tbl := lw_at lw_m8 159 rfl
theorem q1978 : (Jvm.Cond.instanceMethod ({ cls := "SaidSoModel", name := "sumOf", desc := "(I)J" } : Jvm.MethodName)) ∈ lw_all := lw_g (lw_at lw_m8 160 rfl) rfl
theorem q1979 : (Jvm.Cond.code ({ cls := "SaidSoModel", name := "sumOf", desc := "(I)J" } : Jvm.MethodName) prog_18_method_95_code (3 : Nat) (Option.some Jvm.ClassFile.FieldType.long)) ∈ lw_all := lw_g (lw_at lw_m8 161 rfl) rfl
theorem q1980 : (Jvm.Cond.methodLink "SaidSoModel" (434 : Nat) ({ cls := "SaidSoModel", name := "worthOf", desc := "(I)J" } : Jvm.MethodName)) ∈ lw_all := lw_g (lw_at lw_m8 162 rfl) rfl
theorem q1981 : (Jvm.Cond.privateMethod ({ cls := "SaidSoModel", name := "worthOf", desc := "(I)J" } : Jvm.MethodName)) ∈ lw_tbl := lw_at lw_m8 163 rfl
theorem q1982 : (Jvm.Cond.instanceMethod ({ cls := "SaidSoModel", name := "worthOf", desc := "(I)J" } : Jvm.MethodName)) ∈ lw_all := lw_g (lw_at lw_m8 164 rfl) rfl
theorem q1983 : (Jvm.Cond.code ({ cls := "SaidSoModel", name := "worthOf", desc := "(I)J" } : Jvm.MethodName) prog_18_method_93_code (6 : Nat) (Option.some Jvm.ClassFile.FieldType.long)) ∈ lw_all := lw_g (lw_at lw_m8 165 rfl) rfl
theorem q1984 : (Jvm.Cond.methodLink "SaidSoModel" (423 : Nat) ({ cls := "SaidSoModel", name := "bounded", desc := "(J)J" } : Jvm.MethodName)) ∈ lw_all := lw_g (lw_at lw_m8 166 rfl) rfl
theorem q1985 : (Jvm.Cond.privateMethod ({ cls := "SaidSoModel", name := "bounded", desc := "(J)J" } : Jvm.MethodName)) ∈ lw_tbl := lw_at lw_m8 167 rfl
theorem q1986 : (Jvm.Cond.instanceMethod ({ cls := "SaidSoModel", name := "bounded", desc := "(J)J" } : Jvm.MethodName)) ∈ lw_all := lw_g (lw_at lw_m8 168 rfl) rfl
theorem q1987 : (Jvm.Cond.code ({ cls := "SaidSoModel", name := "bounded", desc := "(J)J" } : Jvm.MethodName) prog_18_method_90_code (3 : Nat) (Option.some Jvm.ClassFile.FieldType.long)) ∈ lw_all := lw_g (lw_at lw_m8 169 rfl) rfl
theorem q1988 : (Jvm.Cond.constantLong "SaidSoModel" (419 : Nat) (1000000000000 : Int64)) ∈ lw_all := lw_g (lw_at lw_m8 170 rfl) rfl
theorem q1989 : (Jvm.Cond.constantLong "SaidSoModel" (421 : Nat) (-1000000000000 : Int64)) ∈ lw_all := lw_g (lw_at lw_m8 171 rfl) rfl
theorem q1990 : (Jvm.Cond.methodLink "SaidSoModel" (427 : Nat) ({ cls := "SaidSoModel", name := "times", desc := "(JJ)J" } : Jvm.MethodName)) ∈ lw_all := lw_g (lw_at lw_m8 172 rfl) rfl
theorem q1991 : (Jvm.Cond.privateMethod ({ cls := "SaidSoModel", name := "times", desc := "(JJ)J" } : Jvm.MethodName)) ∈ lw_tbl := lw_at lw_m8 173 rfl
theorem q1992 : (Jvm.Cond.instanceMethod ({ cls := "SaidSoModel", name := "times", desc := "(JJ)J" } : Jvm.MethodName)) ∈ lw_all := lw_g (lw_at lw_m8 174 rfl) rfl
theorem q1993 : (Jvm.Cond.code ({ cls := "SaidSoModel", name := "times", desc := "(JJ)J" } : Jvm.MethodName) prog_18_method_92_code (6 : Nat) (Option.some Jvm.ClassFile.FieldType.long)) ∈ lw_all := lw_g (lw_at lw_m8 175 rfl) rfl
theorem q1994 : (Jvm.Cond.methodLink "SaidSoModel" (430 : Nat) ({ cls := "SaidSoModel", name := "compares", desc := "(IJJ)Z" } : Jvm.MethodName)) ∈ lw_all := lw_g (lw_at lw_m8 176 rfl) rfl
theorem q1995 : (Jvm.Cond.static ({ cls := "SaidSoModel", name := "compares", desc := "(IJJ)Z" } : Jvm.MethodName)) ∈ lw_all := lw_g (lw_at lw_m8 177 rfl) rfl
theorem q1996 : (Jvm.Cond.code ({ cls := "SaidSoModel", name := "compares", desc := "(IJJ)Z" } : Jvm.MethodName) prog_18_method_91_code (5 : Nat) (Option.some Jvm.ClassFile.FieldType.boolean)) ∈ lw_all := lw_g (lw_at lw_m8 178 rfl) rfl
theorem q1997 : (Jvm.Cond.constantLong "SaidSoModel" (450 : Nat) (100 : Int64)) ∈ lw_all := lw_g (lw_at lw_m8 179 rfl) rfl
theorem q1999 : (Jvm.Cond.instanceMethod ({ cls := "SaidSoModel", name := "draws", desc := "(III)I" } : Jvm.MethodName)) ∈ lw_all := lw_g (lw_at lw_m8 181 rfl) rfl
theorem q2000 : (Jvm.Cond.selects "SaidSoModel" ({ cls := "SaidSoModel", name := "draws", desc := "(III)I" } : Jvm.MethodName) ({ cls := "SaidSoModel", name := "draws", desc := "(III)I" } : Jvm.MethodName)) ∈ lw_all := lw_g (lw_at lw_m8 182 rfl) rfl
theorem q2001 : (Jvm.Cond.code ({ cls := "SaidSoModel", name := "draws", desc := "(III)I" } : Jvm.MethodName) prog_18_method_104_code (11 : Nat) (Option.some Jvm.ClassFile.FieldType.int)) ∈ lw_all := lw_g (lw_at lw_m8 183 rfl) rfl
theorem q2002 : (Jvm.Cond.methodLink "SaidSoModel" (466 : Nat) ({ cls := "SaidSoModel", name := "isFirstOf", desc := "(II)Z" } : Jvm.MethodName)) ∈ lw_all := lw_g (lw_at lw_m8 184 rfl) rfl
theorem q2003 : (Jvm.Cond.privateMethod ({ cls := "SaidSoModel", name := "isFirstOf", desc := "(II)Z" } : Jvm.MethodName)) ∈ lw_tbl := lw_at lw_m8 185 rfl
theorem q2004 : (Jvm.Cond.instanceMethod ({ cls := "SaidSoModel", name := "isFirstOf", desc := "(II)Z" } : Jvm.MethodName)) ∈ lw_all := lw_g (lw_at lw_m8 186 rfl) rfl
theorem q2005 : (Jvm.Cond.code ({ cls := "SaidSoModel", name := "isFirstOf", desc := "(II)Z" } : Jvm.MethodName) prog_18_method_103_code (3 : Nat) (Option.some Jvm.ClassFile.FieldType.boolean)) ∈ lw_all := lw_g (lw_at lw_m8 187 rfl) rfl
theorem q2006 : (Jvm.Cond.methodLink "SaidSoModel" (469 : Nat) ({ cls := "SaidSoModel", name := "putAhead", desc := "(I)I" } : Jvm.MethodName)) ∈ lw_all := lw_g (lw_at lw_m8 188 rfl) rfl
theorem q2007 : (Jvm.Cond.privateMethod ({ cls := "SaidSoModel", name := "putAhead", desc := "(I)I" } : Jvm.MethodName)) ∈ lw_tbl := lw_at lw_m8 189 rfl
theorem q2008 : (Jvm.Cond.instanceMethod ({ cls := "SaidSoModel", name := "putAhead", desc := "(I)I" } : Jvm.MethodName)) ∈ lw_all := lw_g (lw_at lw_m8 190 rfl) rfl
theorem q2009 : (Jvm.Cond.code ({ cls := "SaidSoModel", name := "putAhead", desc := "(I)I" } : Jvm.MethodName) prog_18_method_102_code (4 : Nat) (Option.some Jvm.ClassFile.FieldType.int)) ∈ lw_all := lw_g (lw_at lw_m8 191 rfl) rfl
theorem q2010 : (Jvm.Cond.methodLink "SaidSoModel" (472 : Nat) ({ cls := "SaidSoModel", name := "drawn", desc := "(I)I" } : Jvm.MethodName)) ∈ lw_all := lw_g (lw_at lw_m8 192 rfl) rfl
theorem q2011 : (Jvm.Cond.privateMethod ({ cls := "SaidSoModel", name := "drawn", desc := "(I)I" } : Jvm.MethodName)) ∈ lw_tbl := lw_at lw_m8 193 rfl
theorem q2012 : (Jvm.Cond.instanceMethod ({ cls := "SaidSoModel", name := "drawn", desc := "(I)I" } : Jvm.MethodName)) ∈ lw_all := lw_g (lw_at lw_m8 194 rfl) rfl
theorem q2013 : (Jvm.Cond.code ({ cls := "SaidSoModel", name := "drawn", desc := "(I)I" } : Jvm.MethodName) prog_18_method_101_code (2 : Nat) (Option.some Jvm.ClassFile.FieldType.int)) ∈ lw_all := lw_g (lw_at lw_m8 195 rfl) rfl
theorem q2014 : (Jvm.Cond.constantLong "SaidSoModel" (458 : Nat) (1103515245 : Int64)) ∈ lw_all := lw_g (lw_at lw_m8 196 rfl) rfl
theorem q2015 : (Jvm.Cond.constantLong "SaidSoModel" (460 : Nat) (12345 : Int64)) ∈ lw_all := lw_g (lw_at lw_m8 197 rfl) rfl
theorem q2016 : (Jvm.Cond.constantLong "SaidSoModel" (462 : Nat) (2147483647 : Int64)) ∈ lw_all := lw_g (lw_at lw_m8 198 rfl) rfl
theorem q2017 : (Jvm.Cond.constantLong "SaidSoModel" (464 : Nat) (65536 : Int64)) ∈ lw_all := lw_g (lw_at lw_m8 199 rfl) rfl
theorem q2019 : (Jvm.Cond.instanceMethod ({ cls := "SaidSoModel", name := "barred", desc := "(I)I" } : Jvm.MethodName)) ∈ lw_all := lw_g (lw_at lw_m8 201 rfl) rfl
theorem q2020 : (Jvm.Cond.selects "SaidSoModel" ({ cls := "SaidSoModel", name := "barred", desc := "(I)I" } : Jvm.MethodName) ({ cls := "SaidSoModel", name := "barred", desc := "(I)I" } : Jvm.MethodName)) ∈ lw_all := lw_g (lw_at lw_m8 202 rfl) rfl
theorem q2021 : (Jvm.Cond.code ({ cls := "SaidSoModel", name := "barred", desc := "(I)I" } : Jvm.MethodName) prog_18_method_112_code (2 : Nat) (Option.some Jvm.ClassFile.FieldType.int)) ∈ lw_all := lw_g (lw_at lw_m8 203 rfl) rfl
theorem q2022 : (Jvm.Cond.methodLink "SaidSoModel" (494 : Nat) ({ cls := "SaidSoModel", name := "isBarred", desc := "(I)Z" } : Jvm.MethodName)) ∈ lw_all := lw_g (lw_at lw_m8 204 rfl) rfl
theorem q2023 : (Jvm.Cond.privateMethod ({ cls := "SaidSoModel", name := "isBarred", desc := "(I)Z" } : Jvm.MethodName)) ∈ lw_tbl := lw_at lw_m8 205 rfl
theorem q2024 : (Jvm.Cond.instanceMethod ({ cls := "SaidSoModel", name := "isBarred", desc := "(I)Z" } : Jvm.MethodName)) ∈ lw_all := lw_g (lw_at lw_m8 206 rfl) rfl
theorem q2025 : (Jvm.Cond.code ({ cls := "SaidSoModel", name := "isBarred", desc := "(I)Z" } : Jvm.MethodName) prog_18_method_111_code (2 : Nat) (Option.some Jvm.ClassFile.FieldType.boolean)) ∈ lw_all := lw_g (lw_at lw_m8 207 rfl) rfl
theorem q2026 : (Jvm.Cond.methodLink "SaidSoModel" (488 : Nat) ({ cls := "SaidSoModel", name := "namesByBoth", desc := "(I)V" } : Jvm.MethodName)) ∈ lw_all := lw_g (lw_at lw_m8 208 rfl) rfl
theorem q2027 : (Jvm.Cond.privateMethod ({ cls := "SaidSoModel", name := "namesByBoth", desc := "(I)V" } : Jvm.MethodName)) ∈ lw_tbl := lw_at lw_m8 209 rfl
theorem q2028 : (Jvm.Cond.instanceMethod ({ cls := "SaidSoModel", name := "namesByBoth", desc := "(I)V" } : Jvm.MethodName)) ∈ lw_all := lw_g (lw_at lw_m8 210 rfl) rfl
theorem q2029 : (Jvm.Cond.code ({ cls := "SaidSoModel", name := "namesByBoth", desc := "(I)V" } : Jvm.MethodName) prog_18_method_108_code (3 : Nat) (Option.none : Option Jvm.ClassFile.FieldType)) ∈ lw_all := lw_g (lw_at lw_m8 211 rfl) rfl
theorem q2030 : (Jvm.Cond.methodLink "SaidSoModel" (482 : Nat) ({ cls := "SaidSoModel", name := "namesByTalk", desc := "(IZ)V" } : Jvm.MethodName)) ∈ lw_all := lw_g (lw_at lw_m8 212 rfl) rfl
theorem q2031 : (Jvm.Cond.privateMethod ({ cls := "SaidSoModel", name := "namesByTalk", desc := "(IZ)V" } : Jvm.MethodName)) ∈ lw_tbl := lw_at lw_m8 213 rfl
theorem q2032 : (Jvm.Cond.instanceMethod ({ cls := "SaidSoModel", name := "namesByTalk", desc := "(IZ)V" } : Jvm.MethodName)) ∈ lw_all := lw_g (lw_at lw_m8 214 rfl) rfl
theorem q2033 : (Jvm.Cond.code ({ cls := "SaidSoModel", name := "namesByTalk", desc := "(IZ)V" } : Jvm.MethodName) prog_18_method_107_code (4 : Nat) (Option.none : Option Jvm.ClassFile.FieldType)) ∈ lw_all := lw_g (lw_at lw_m8 215 rfl) rfl
theorem q2034 : (Jvm.Cond.methodLink "SaidSoModel" (475 : Nat) ({ cls := "SaidSoModel", name := "isIn1", desc := "(IIZ)Z" } : Jvm.MethodName)) ∈ lw_all := lw_g (lw_at lw_m8 216 rfl) rfl
theorem q2035 : (Jvm.Cond.privateMethod ({ cls := "SaidSoModel", name := "isIn1", desc := "(IIZ)Z" } : Jvm.MethodName)) ∈ lw_tbl := lw_at lw_m8 217 rfl
theorem q2036 : (Jvm.Cond.instanceMethod ({ cls := "SaidSoModel", name := "isIn1", desc := "(IIZ)Z" } : Jvm.MethodName)) ∈ lw_all := lw_g (lw_at lw_m8 218 rfl) rfl
theorem q2037 : (Jvm.Cond.code ({ cls := "SaidSoModel", name := "isIn1", desc := "(IIZ)Z" } : Jvm.MethodName) prog_18_method_105_code (4 : Nat) (Option.some Jvm.ClassFile.FieldType.boolean)) ∈ lw_all := lw_g (lw_at lw_m8 219 rfl) rfl
theorem q2038 : (Jvm.Cond.methodLink "SaidSoModel" (479 : Nat) ({ cls := "SaidSoModel", name := "isFirstIn", desc := "(IIZ)Z" } : Jvm.MethodName)) ∈ lw_all := lw_g (lw_at lw_m8 220 rfl) rfl
theorem q2039 : (Jvm.Cond.privateMethod ({ cls := "SaidSoModel", name := "isFirstIn", desc := "(IIZ)Z" } : Jvm.MethodName)) ∈ lw_tbl := lw_at lw_m8 221 rfl
theorem q2040 : (Jvm.Cond.instanceMethod ({ cls := "SaidSoModel", name := "isFirstIn", desc := "(IIZ)Z" } : Jvm.MethodName)) ∈ lw_all := lw_g (lw_at lw_m8 222 rfl) rfl
theorem q2041 : (Jvm.Cond.code ({ cls := "SaidSoModel", name := "isFirstIn", desc := "(IIZ)Z" } : Jvm.MethodName) prog_18_method_106_code (5 : Nat) (Option.some Jvm.ClassFile.FieldType.boolean)) ∈ lw_all := lw_g (lw_at lw_m8 223 rfl) rfl
theorem q2042 : (Jvm.Cond.methodLink "SaidSoModel" (491 : Nat) ({ cls := "SaidSoModel", name := "holds", desc := "(I)Z" } : Jvm.MethodName)) ∈ lw_all := lw_g (lw_at lw_m8 224 rfl) rfl
theorem q2043 : (Jvm.Cond.privateMethod ({ cls := "SaidSoModel", name := "holds", desc := "(I)Z" } : Jvm.MethodName)) ∈ lw_tbl := lw_at lw_m8 225 rfl
theorem q2044 : (Jvm.Cond.instanceMethod ({ cls := "SaidSoModel", name := "holds", desc := "(I)Z" } : Jvm.MethodName)) ∈ lw_all := lw_g (lw_at lw_m8 226 rfl) rfl
theorem q2045 : (Jvm.Cond.code ({ cls := "SaidSoModel", name := "holds", desc := "(I)Z" } : Jvm.MethodName) prog_18_method_96_code (4 : Nat) (Option.some Jvm.ClassFile.FieldType.boolean)) ∈ lw_all := lw_g (lw_at lw_m8 227 rfl) rfl
theorem q2047 : (Jvm.Cond.instanceMethod ({ cls := "SaidSoModel", name := "jury", desc := "(II)I" } : Jvm.MethodName)) ∈ lw_all := lw_g (lw_at lw_m8 229 rfl) rfl
theorem q2048 : (Jvm.Cond.selects "SaidSoModel" ({ cls := "SaidSoModel", name := "jury", desc := "(II)I" } : Jvm.MethodName) ({ cls := "SaidSoModel", name := "jury", desc := "(II)I" } : Jvm.MethodName)) ∈ lw_all := lw_g (lw_at lw_m8 230 rfl) rfl
theorem q2049 : (Jvm.Cond.code ({ cls := "SaidSoModel", name := "jury", desc := "(II)I" } : Jvm.MethodName) prog_18_method_113_code (3 : Nat) (Option.some Jvm.ClassFile.FieldType.int)) ∈ lw_all := lw_g (lw_at lw_m8 231 rfl) rfl
theorem q2050 : (Jvm.Cond.methodLink "SaidSoModel" (497 : Nat) ({ cls := "SaidSoModel", name := "finds", desc := "(II)Z" } : Jvm.MethodName)) ∈ lw_all := lw_g (lw_at lw_m8 232 rfl) rfl
theorem q2051 : (Jvm.Cond.privateMethod ({ cls := "SaidSoModel", name := "finds", desc := "(II)Z" } : Jvm.MethodName)) ∈ lw_tbl := lw_at lw_m8 233 rfl
theorem q2052 : (Jvm.Cond.instanceMethod ({ cls := "SaidSoModel", name := "finds", desc := "(II)Z" } : Jvm.MethodName)) ∈ lw_all := lw_g (lw_at lw_m8 234 rfl) rfl
theorem q2053 : (Jvm.Cond.code ({ cls := "SaidSoModel", name := "finds", desc := "(II)Z" } : Jvm.MethodName) prog_18_method_110_code (3 : Nat) (Option.some Jvm.ClassFile.FieldType.boolean)) ∈ lw_all := lw_g (lw_at lw_m8 235 rfl) rfl
theorem q2054 : (Jvm.Cond.methodLink "SaidSoModel" (485 : Nat) ({ cls := "SaidSoModel", name := "namesByPage", desc := "(I)V" } : Jvm.MethodName)) ∈ lw_all := lw_g (lw_at lw_m8 236 rfl) rfl
theorem q2055 : (Jvm.Cond.privateMethod ({ cls := "SaidSoModel", name := "namesByPage", desc := "(I)V" } : Jvm.MethodName)) ∈ lw_tbl := lw_at lw_m8 237 rfl
theorem q2056 : (Jvm.Cond.instanceMethod ({ cls := "SaidSoModel", name := "namesByPage", desc := "(I)V" } : Jvm.MethodName)) ∈ lw_all := lw_g (lw_at lw_m8 238 rfl) rfl
theorem q2057 : (Jvm.Cond.code ({ cls := "SaidSoModel", name := "namesByPage", desc := "(I)V" } : Jvm.MethodName) prog_18_method_109_code (3 : Nat) (Option.none : Option Jvm.ClassFile.FieldType)) ∈ lw_all := lw_g (lw_at lw_m8 239 rfl) rfl
theorem q2059 : (Jvm.Cond.instanceMethod ({ cls := "SaidSoModel", name := "there", desc := "(I)I" } : Jvm.MethodName)) ∈ lw_all := lw_g (lw_at lw_m9 1 rfl) rfl
theorem q2060 : (Jvm.Cond.selects "SaidSoModel" ({ cls := "SaidSoModel", name := "there", desc := "(I)I" } : Jvm.MethodName) ({ cls := "SaidSoModel", name := "there", desc := "(I)I" } : Jvm.MethodName)) ∈ lw_all := lw_g (lw_at lw_m9 2 rfl) rfl
theorem q2061 : (Jvm.Cond.code ({ cls := "SaidSoModel", name := "there", desc := "(I)I" } : Jvm.MethodName) prog_18_method_114_code (2 : Nat) (Option.some Jvm.ClassFile.FieldType.int)) ∈ lw_all := lw_g (lw_at lw_m9 3 rfl) rfl
theorem q2063 : (Jvm.Cond.instanceMethod ({ cls := "SaidSoModel", name := "found", desc := "(II)I" } : Jvm.MethodName)) ∈ lw_all := lw_g (lw_at lw_m9 5 rfl) rfl
theorem q2064 : (Jvm.Cond.selects "SaidSoModel" ({ cls := "SaidSoModel", name := "found", desc := "(II)I" } : Jvm.MethodName) ({ cls := "SaidSoModel", name := "found", desc := "(II)I" } : Jvm.MethodName)) ∈ lw_all := lw_g (lw_at lw_m9 6 rfl) rfl
theorem q2065 : (Jvm.Cond.code ({ cls := "SaidSoModel", name := "found", desc := "(II)I" } : Jvm.MethodName) prog_18_method_115_code (5 : Nat) (Option.some Jvm.ClassFile.FieldType.int)) ∈ lw_all := lw_g (lw_at lw_m9 7 rfl) rfl
theorem q2067 : (Jvm.Cond.instanceMethod ({ cls := "SaidSoModel", name := "count", desc := "(I)I" } : Jvm.MethodName)) ∈ lw_all := lw_g (lw_at lw_m9 9 rfl) rfl
theorem q2068 : (Jvm.Cond.selects "SaidSoModel" ({ cls := "SaidSoModel", name := "count", desc := "(I)I" } : Jvm.MethodName) ({ cls := "SaidSoModel", name := "count", desc := "(I)I" } : Jvm.MethodName)) ∈ lw_all := lw_g (lw_at lw_m9 10 rfl) rfl
theorem q2069 : (Jvm.Cond.code ({ cls := "SaidSoModel", name := "count", desc := "(I)I" } : Jvm.MethodName) prog_18_method_116_code (2 : Nat) (Option.some Jvm.ClassFile.FieldType.int)) ∈ lw_all := lw_g (lw_at lw_m9 11 rfl) rfl
theorem q2082 : (Jvm.Cond.castable "SaidSoModel" "java/lang/Object") ∈ lw_tbl := lw_at lw_m9 24 rfl
theorem in_X4 : ∀ w ∈ wsX40, w ∈ lw_all := lw_in wsX40 [1486, 1488, 1490, 1492, 1494, 1496, 1498, 1500, 1502, 1504, 1506, 1508, 1510, 1512, 1514, 1516, 1518, 1520, 1522, 1524, 1526, 1528, 1530, 1532, 1534, 1536, 1538, 1540, 1542, 1544, 1546, 1548, 1550, 1552, 1554, 1556, 1558, 1560, 1562, 1564, 1566, 1568, 1570, 1572, 1574, 1576, 1578, 1580, 1582, 1584, 1586, 1588, 1590, 1592, 1594, 1596, 1598, 1600, 1602, 1604, 1606, 1608, 1610, 1612, 1614, 1616] (by decide +kernel) (by decide +kernel)
