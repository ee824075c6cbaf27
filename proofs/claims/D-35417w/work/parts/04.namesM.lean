/-! KeyringCourtModel -/
set_option maxRecDepth 100000
def RX5 : String := "KeyringCourtModel"
def TX5 : u_T := fun k => match k with
  | 0 => ("KeyringCourtModel", "clock", "I", false)
  | 1 => ("KeyringCourtModel", "factors", "[I", true)
  | 2 => ("KeyringCourtModel", "inRow", "[I", true)
  | 3 => ("KeyringCourtModel", "counter", "[I", true)
  | 4 => ("KeyringCourtModel", "wrongAt", "[I", true)
  | 5 => ("KeyringCourtModel", "knowsDevice", "[Z", true)
  | 6 => ("KeyringCourtModel", "knowsPlace", "[Z", true)
  | 7 => ("KeyringCourtModel", "isAway", "[Z", true)
  | 8 => ("KeyringCourtModel", "isHelper", "[Z", true)
  | 9 => ("KeyringCourtModel", "versions", "I", false)
  | 10 => ("KeyringCourtModel", "steps", "[I", true)
  | 11 => ("KeyringCourtModel", "stepKind", "[I", true)
  | 12 => ("KeyringCourtModel", "stepA", "[I", true)
  | 13 => ("KeyringCourtModel", "stepB", "[I", true)
  | 14 => ("KeyringCourtModel", "stepYes", "[I", true)
  | 15 => ("KeyringCourtModel", "stepNo", "[I", true)
  | 16 => ("KeyringCourtModel", "met", "[Z", true)
  | 17 => ("KeyringCourtModel", "points", "[I", true)
  | 18 => ("KeyringCourtModel", "trial", "[I", true)
  | 19 => ("KeyringCourtModel", "attempts", "I", false)
  | 20 => ("KeyringCourtModel", "aPerson", "[I", true)
  | 21 => ("KeyringCourtModel", "aDevice", "[I", true)
  | 22 => ("KeyringCourtModel", "aPlace", "[I", true)
  | 23 => ("KeyringCourtModel", "aVersion", "[I", true)
  | 24 => ("KeyringCourtModel", "aStep", "[I", true)
  | 25 => ("KeyringCourtModel", "aState", "[I", true)
  | 26 => ("KeyringCourtModel", "aWrong", "[I", true)
  | 27 => ("KeyringCourtModel", "aAnswers", "[I", true)
  | 28 => ("KeyringCourtModel", "aSession", "[I", true)
  | 29 => ("KeyringCourtModel", "aShown", "[I", true)
  | 30 => ("KeyringCourtModel", "sessions", "I", false)
  | 31 => ("KeyringCourtModel", "sPerson", "[I", true)
  | 32 => ("KeyringCourtModel", "sBegan", "[I", true)
  | 33 => ("KeyringCourtModel", "sUsed", "[I", true)
  | 34 => ("KeyringCourtModel", "sOwner", "[I", true)
  | 35 => ("KeyringCourtModel", "sLive", "[Z", true)
  | 36 => ("KeyringCourtModel", "sShown", "[I", true)
  | 37 => ("KeyringCourtModel", "consents", "[I", true)
  | 38 => ("KeyringCourtModel", "needs", "[I", true)
  | 39 => ("KeyringCourtModel", "codes", "I", false)
  | 40 => ("KeyringCourtModel", "cSession", "[I", true)
  | 41 => ("KeyringCourtModel", "cClient", "[I", true)
  | 42 => ("KeyringCourtModel", "cAudience", "[I", true)
  | 43 => ("KeyringCourtModel", "cScopes", "[I", true)
  | 44 => ("KeyringCourtModel", "cMade", "[I", true)
  | 45 => ("KeyringCourtModel", "cFamily", "[I", true)
  | 46 => ("KeyringCourtModel", "families", "I", false)
  | 47 => ("KeyringCourtModel", "fCode", "[I", true)
  | 48 => ("KeyringCourtModel", "fNumber", "[I", true)
  | 49 => ("KeyringCourtModel", "fMinute", "[I", true)
  | 50 => ("KeyringCourtModel", "fToken", "[I", true)
  | 51 => ("KeyringCourtModel", "fGood", "[Z", true)
  | 52 => ("KeyringCourtModel", "tokens", "I", false)
  | 53 => ("KeyringCourtModel", "tClient", "[I", true)
  | 54 => ("KeyringCourtModel", "tAudience", "[I", true)
  | 55 => ("KeyringCourtModel", "tScopes", "[I", true)
  | 56 => ("KeyringCourtModel", "tActed", "[I", true)
  | 57 => ("KeyringCourtModel", "tFamily", "[I", true)
  | 58 => ("KeyringCourtModel", "tKey", "[I", true)
  | 59 => ("KeyringCourtModel", "tLast", "[I", true)
  | 60 => ("KeyringCourtModel", "keys", "I", false)
  | 61 => ("KeyringCourtModel", "signs", "I", false)
  | 62 => ("KeyringCourtModel", "waits", "I", false)
  | 63 => ("KeyringCourtModel", "signsAt", "I", false)
  | 64 => ("KeyringCourtModel", "isOut", "[Z", true)
  | 65 => ("KeyringCourtModel", "retires", "[I", true)
  | 66 => ("KeyringCourtModel", "isDown", "[Z", true)
  | 67 => ("KeyringCourtModel", "cache", "[I", true)
  | 68 => ("KeyringCourtModel", "fetched", "[I", true)
  | 69 => ("KeyringCourtModel", "isTold", "[Z", true)
  | 70 => ("KeyringCourtModel", "recoveries", "I", false)
  | 71 => ("KeyringCourtModel", "rPerson", "[I", true)
  | 72 => ("KeyringCourtModel", "rBegan", "[I", true)
  | 73 => ("KeyringCourtModel", "rOpen", "[Z", true)
  | 74 => ("KeyringCourtModel", "rVouched", "[I", true)
  | 75 => ("KeyringCourtModel", "rLevels", "[I", true)
  | 76 => ("KeyringCourtModel", "linked", "[I", true)
  | 77 => ("KeyringCourtModel", "entries", "I", false)
  | 78 => ("KeyringCourtModel", "eKind", "[I", true)
  | 79 => ("KeyringCourtModel", "eNumber", "[I", true)
  | 80 => ("KeyringCourtModel", "eMinute", "[I", true)
  | 81 => ("KeyringCourtModel", "sum", "I", false)
  | _ => ("KeyringCourtModel", "thrown", "I", false)
def tyX5 : Nat → FieldType := fun k => match k with
  | 0 => .int
  | 1 => .array .int
  | 2 => .array .int
  | 3 => .array .int
  | 4 => .array .int
  | 5 => .array .boolean
  | 6 => .array .boolean
  | 7 => .array .boolean
  | 8 => .array .boolean
  | 9 => .int
  | 10 => .array .int
  | 11 => .array .int
  | 12 => .array .int
  | 13 => .array .int
  | 14 => .array .int
  | 15 => .array .int
  | 16 => .array .boolean
  | 17 => .array .int
  | 18 => .array .int
  | 19 => .int
  | 20 => .array .int
  | 21 => .array .int
  | 22 => .array .int
  | 23 => .array .int
  | 24 => .array .int
  | 25 => .array .int
  | 26 => .array .int
  | 27 => .array .int
  | 28 => .array .int
  | 29 => .array .int
  | 30 => .int
  | 31 => .array .int
  | 32 => .array .int
  | 33 => .array .int
  | 34 => .array .int
  | 35 => .array .boolean
  | 36 => .array .int
  | 37 => .array .int
  | 38 => .array .int
  | 39 => .int
  | 40 => .array .int
  | 41 => .array .int
  | 42 => .array .int
  | 43 => .array .int
  | 44 => .array .int
  | 45 => .array .int
  | 46 => .int
  | 47 => .array .int
  | 48 => .array .int
  | 49 => .array .int
  | 50 => .array .int
  | 51 => .array .boolean
  | 52 => .int
  | 53 => .array .int
  | 54 => .array .int
  | 55 => .array .int
  | 56 => .array .int
  | 57 => .array .int
  | 58 => .array .int
  | 59 => .array .int
  | 60 => .int
  | 61 => .int
  | 62 => .int
  | 63 => .int
  | 64 => .array .boolean
  | 65 => .array .int
  | 66 => .array .boolean
  | 67 => .array .int
  | 68 => .array .int
  | 69 => .array .boolean
  | 70 => .int
  | 71 => .array .int
  | 72 => .array .int
  | 73 => .array .boolean
  | 74 => .array .int
  | 75 => .array .int
  | 76 => .array .int
  | 77 => .int
  | 78 => .array .int
  | 79 => .array .int
  | 80 => .array .int
  | 81 => .int
  | _ => .int
abbrev wsX50 : List Cond := u_ws RX5 TX5 83
set_option maxRecDepth 100000 in
theorem nmX5 : ∀ a, a < 83 → ∀ b, b < 83 → a ≠ b → (TX5 a).2.1 ≠ (TX5 b).2.1 := by decide +kernel
set_option maxRecDepth 100000 in
theorem tyX5_ok : ∀ k, k < 83 → parseFieldDescriptor (TX5 k).2.2.1 = some (tyX5 k) := by decide +kernel
abbrev cX5_init : ByteArray := prog_14_method_1_code
def yX5_init : MethodName := ⟨RX5, "<init>", "()V"⟩
def dkwX5_init_29 : List UInt8 := [42, 180, 0, 210, 27, 2, 79, 132, 1, 1, 167, 255, 240, 177]
abbrev dktX5_init_29 : List UInt8 := dkwX5_init_29 ++ []
def dkwX5_init_28 : List UInt8 := [162, 0, 16, 42, 180, 0, 180, 27, 2, 79, 132, 1, 1, 167, 255, 240, 3, 60, 27, 16, 6, 162, 0, 16]
abbrev dktX5_init_28 : List UInt8 := dkwX5_init_28 ++ dktX5_init_29
def dkwX5_init_27 : List UInt8 := [60, 27, 7, 162, 0, 16, 42, 180, 0, 186, 27, 4, 79, 132, 1, 1, 167, 255, 241, 3, 60, 27, 16, 20]
abbrev dktX5_init_27 : List UInt8 := dkwX5_init_27 ++ dktX5_init_28
def dkwX5_init_26 : List UInt8 := [5, 4, 79, 3, 60, 27, 6, 162, 0, 16, 42, 180, 0, 59, 27, 2, 79, 132, 1, 1, 167, 255, 241, 3]
abbrev dktX5_init_26 : List UInt8 := dkwX5_init_26 ++ dktX5_init_27
def dkwX5_init_25 : List UInt8 := [132, 1, 1, 167, 255, 238, 42, 180, 0, 56, 3, 5, 79, 42, 180, 0, 56, 4, 4, 79, 42, 180, 0, 56]
abbrev dktX5_init_25 : List UInt8 := dkwX5_init_25 ++ dktX5_init_26
def dkwX5_init_24 : List UInt8 := [16, 7, 181, 0, 222, 3, 60, 27, 16, 18, 162, 0, 18, 42, 180, 0, 19, 27, 17, 252, 24, 79]
abbrev dktX5_init_24 : List UInt8 := dkwX5_init_24 ++ dktX5_init_25
def dkwX5_init_23 : List UInt8 := [188, 10, 181, 0, 213, 42, 17, 4, 176, 188, 10, 181, 0, 216, 42, 17, 4, 176, 188, 10, 181, 0, 219, 42]
abbrev dktX5_init_23 : List UInt8 := dkwX5_init_23 ++ dktX5_init_24
def dkwX5_init_22 : List UInt8 := [181, 0, 204, 42, 16, 20, 188, 10, 181, 0, 207, 42, 16, 6, 188, 10, 181, 0, 210, 42, 17, 4, 176]
abbrev dktX5_init_22 : List UInt8 := dkwX5_init_22 ++ dktX5_init_23
def dkwX5_init_21 : List UInt8 := [181, 0, 195, 42, 16, 20, 188, 10, 181, 0, 198, 42, 16, 20, 188, 4, 181, 0, 201, 42, 16, 20, 188, 10]
abbrev dktX5_init_21 : List UInt8 := dkwX5_init_21 ++ dktX5_init_22
def dkwX5_init_20 : List UInt8 := [181, 0, 186, 42, 7, 188, 10, 181, 0, 189, 42, 17, 0, 240, 188, 4, 181, 0, 192, 42, 16, 20, 188, 10]
abbrev dktX5_init_20 : List UInt8 := dkwX5_init_20 ++ dktX5_init_21
def dkwX5_init_19 : List UInt8 := [181, 0, 177, 42, 16, 20, 188, 10, 181, 0, 180, 42, 7, 188, 4, 181, 0, 183, 42, 7, 188, 10]
abbrev dktX5_init_19 : List UInt8 := dkwX5_init_19 ++ dktX5_init_20
def dkwX5_init_18 : List UInt8 := [17, 0, 200, 188, 10, 181, 0, 167, 42, 4, 181, 0, 170, 42, 2, 181, 0, 174, 42, 16, 20, 188, 4]
abbrev dktX5_init_18 : List UInt8 := dkwX5_init_18 ++ dktX5_init_19
def dkwX5_init_17 : List UInt8 := [181, 0, 158, 42, 17, 0, 200, 188, 10, 181, 0, 161, 42, 17, 0, 200, 188, 10, 181, 0, 164, 42]
abbrev dktX5_init_17 : List UInt8 := dkwX5_init_17 ++ dktX5_init_18
def dkwX5_init_16 : List UInt8 := [42, 17, 0, 200, 188, 10, 181, 0, 152, 42, 17, 0, 200, 188, 10, 181, 0, 155, 42, 17, 0, 200, 188, 10]
abbrev dktX5_init_16 : List UInt8 := dkwX5_init_16 ++ dktX5_init_17
def dkwX5_init_15 : List UInt8 := [16, 60, 188, 10, 181, 0, 143, 42, 16, 60, 188, 4, 181, 0, 146, 42, 17, 0, 200, 188, 10, 181, 0, 149]
abbrev dktX5_init_15 : List UInt8 := dkwX5_init_15 ++ dktX5_init_16
def dkwX5_init_14 : List UInt8 := [16, 60, 188, 10, 181, 0, 134, 42, 16, 60, 188, 10, 181, 0, 137, 42, 16, 60, 188, 10, 181, 0, 140, 42]
abbrev dktX5_init_14 : List UInt8 := dkwX5_init_14 ++ dktX5_init_15
def dkwX5_init_13 : List UInt8 := [16, 60, 188, 10, 181, 0, 125, 42, 16, 60, 188, 10, 181, 0, 128, 42, 16, 60, 188, 10, 181, 0, 131, 42]
abbrev dktX5_init_13 : List UInt8 := dkwX5_init_13 ++ dktX5_init_14
def dkwX5_init_12 : List UInt8 := [16, 60, 188, 10, 181, 0, 116, 42, 16, 60, 188, 10, 181, 0, 119, 42, 16, 60, 188, 10, 181, 0, 122, 42]
abbrev dktX5_init_12 : List UInt8 := dkwX5_init_12 ++ dktX5_init_13
def dkwX5_init_11 : List UInt8 := [17, 0, 180, 188, 10, 181, 0, 107, 42, 16, 28, 188, 10, 181, 0, 110, 42, 7, 188, 10, 181, 0, 113, 42]
abbrev dktX5_init_11 : List UInt8 := dkwX5_init_11 ++ dktX5_init_12
def dkwX5_init_10 : List UInt8 := [188, 10, 181, 0, 98, 42, 16, 60, 188, 10, 181, 0, 101, 42, 16, 60, 188, 4, 181, 0, 104, 42]
abbrev dktX5_init_10 : List UInt8 := dkwX5_init_10 ++ dktX5_init_11
def dkwX5_init_9 : List UInt8 := [188, 10, 181, 0, 89, 42, 16, 60, 188, 10, 181, 0, 92, 42, 16, 60, 188, 10, 181, 0, 95, 42, 16, 60]
abbrev dktX5_init_9 : List UInt8 := dkwX5_init_9 ++ dktX5_init_10
def dkwX5_init_8 : List UInt8 := [181, 0, 80, 42, 16, 60, 188, 10, 181, 0, 83, 42, 16, 60, 188, 10, 181, 0, 86, 42, 17, 0, 180]
abbrev dktX5_init_8 : List UInt8 := dkwX5_init_8 ++ dktX5_init_9
def dkwX5_init_7 : List UInt8 := [181, 0, 71, 42, 16, 60, 188, 10, 181, 0, 74, 42, 16, 60, 188, 10, 181, 0, 77, 42, 16, 60, 188, 10]
abbrev dktX5_init_7 : List UInt8 := dkwX5_init_7 ++ dktX5_init_8
def dkwX5_init_6 : List UInt8 := [181, 0, 62, 42, 16, 60, 188, 10, 181, 0, 65, 42, 16, 60, 188, 10, 181, 0, 68, 42, 16, 60, 188, 10]
abbrev dktX5_init_6 : List UInt8 := dkwX5_init_6 ++ dktX5_init_7
def dkwX5_init_5 : List UInt8 := [188, 4, 181, 0, 53, 42, 6, 188, 10, 181, 0, 56, 42, 6, 188, 10, 181, 0, 59, 42, 16, 60, 188, 10]
abbrev dktX5_init_5 : List UInt8 := dkwX5_init_5 ++ dktX5_init_6
def dkwX5_init_4 : List UInt8 := [188, 10, 181, 0, 44, 42, 16, 108, 188, 10, 181, 0, 47, 42, 16, 108, 188, 10, 181, 0, 50, 42, 16, 96]
abbrev dktX5_init_4 : List UInt8 := dkwX5_init_4 ++ dktX5_init_5
def dkwX5_init_3 : List UInt8 := [188, 10, 181, 0, 35, 42, 16, 108, 188, 10, 181, 0, 38, 42, 16, 108, 188, 10, 181, 0, 41, 42, 16, 108]
abbrev dktX5_init_3 : List UInt8 := dkwX5_init_3 ++ dktX5_init_4
def dkwX5_init_2 : List UInt8 := [188, 4, 181, 0, 26, 42, 16, 6, 188, 4, 181, 0, 29, 42, 16, 6, 188, 4, 181, 0, 32, 42, 16, 9]
abbrev dktX5_init_2 : List UInt8 := dkwX5_init_2 ++ dktX5_init_3
def dkwX5_init_1 : List UInt8 := [188, 10, 181, 0, 16, 42, 16, 18, 188, 10, 181, 0, 19, 42, 16, 36, 188, 4, 181, 0, 22, 42, 16, 36]
abbrev dktX5_init_1 : List UInt8 := dkwX5_init_1 ++ dktX5_init_2
def dkwX5_init_0 : List UInt8 := [42, 183, 0, 1, 42, 16, 18, 188, 10, 181, 0, 7, 42, 16, 18, 188, 10, 181, 0, 13, 42, 16, 6]
abbrev dktX5_init_0 : List UInt8 := dkwX5_init_0 ++ dktX5_init_1
theorem dksX5_init_0 : cX5_init.data.toList.drop 0 = dktX5_init_0 := by decide +kernel
theorem dksX5_init_1 : cX5_init.data.toList.drop 23 = dktX5_init_1 := dk_seg dksX5_init_0 23 rfl rfl
theorem dksX5_init_2 : cX5_init.data.toList.drop 47 = dktX5_init_2 := dk_seg dksX5_init_1 24 rfl rfl
theorem dksX5_init_3 : cX5_init.data.toList.drop 71 = dktX5_init_3 := dk_seg dksX5_init_2 24 rfl rfl
theorem dksX5_init_4 : cX5_init.data.toList.drop 95 = dktX5_init_4 := dk_seg dksX5_init_3 24 rfl rfl
theorem dksX5_init_5 : cX5_init.data.toList.drop 119 = dktX5_init_5 := dk_seg dksX5_init_4 24 rfl rfl
theorem dksX5_init_6 : cX5_init.data.toList.drop 143 = dktX5_init_6 := dk_seg dksX5_init_5 24 rfl rfl
theorem dksX5_init_7 : cX5_init.data.toList.drop 167 = dktX5_init_7 := dk_seg dksX5_init_6 24 rfl rfl
theorem dksX5_init_8 : cX5_init.data.toList.drop 191 = dktX5_init_8 := dk_seg dksX5_init_7 24 rfl rfl
theorem dksX5_init_9 : cX5_init.data.toList.drop 214 = dktX5_init_9 := dk_seg dksX5_init_8 23 rfl rfl
theorem dksX5_init_10 : cX5_init.data.toList.drop 238 = dktX5_init_10 := dk_seg dksX5_init_9 24 rfl rfl
theorem dksX5_init_11 : cX5_init.data.toList.drop 260 = dktX5_init_11 := dk_seg dksX5_init_10 22 rfl rfl
theorem dksX5_init_12 : cX5_init.data.toList.drop 284 = dktX5_init_12 := dk_seg dksX5_init_11 24 rfl rfl
theorem dksX5_init_13 : cX5_init.data.toList.drop 308 = dktX5_init_13 := dk_seg dksX5_init_12 24 rfl rfl
theorem dksX5_init_14 : cX5_init.data.toList.drop 332 = dktX5_init_14 := dk_seg dksX5_init_13 24 rfl rfl
theorem dksX5_init_15 : cX5_init.data.toList.drop 356 = dktX5_init_15 := dk_seg dksX5_init_14 24 rfl rfl
theorem dksX5_init_16 : cX5_init.data.toList.drop 380 = dktX5_init_16 := dk_seg dksX5_init_15 24 rfl rfl
theorem dksX5_init_17 : cX5_init.data.toList.drop 404 = dktX5_init_17 := dk_seg dksX5_init_16 24 rfl rfl
theorem dksX5_init_18 : cX5_init.data.toList.drop 426 = dktX5_init_18 := dk_seg dksX5_init_17 22 rfl rfl
theorem dksX5_init_19 : cX5_init.data.toList.drop 449 = dktX5_init_19 := dk_seg dksX5_init_18 23 rfl rfl
theorem dksX5_init_20 : cX5_init.data.toList.drop 471 = dktX5_init_20 := dk_seg dksX5_init_19 22 rfl rfl
theorem dksX5_init_21 : cX5_init.data.toList.drop 495 = dktX5_init_21 := dk_seg dksX5_init_20 24 rfl rfl
theorem dksX5_init_22 : cX5_init.data.toList.drop 519 = dktX5_init_22 := dk_seg dksX5_init_21 24 rfl rfl
theorem dksX5_init_23 : cX5_init.data.toList.drop 542 = dktX5_init_23 := dk_seg dksX5_init_22 23 rfl rfl
theorem dksX5_init_24 : cX5_init.data.toList.drop 566 = dktX5_init_24 := dk_seg dksX5_init_23 24 rfl rfl
theorem dksX5_init_25 : cX5_init.data.toList.drop 588 = dktX5_init_25 := dk_seg dksX5_init_24 22 rfl rfl
theorem dksX5_init_26 : cX5_init.data.toList.drop 612 = dktX5_init_26 := dk_seg dksX5_init_25 24 rfl rfl
theorem dksX5_init_27 : cX5_init.data.toList.drop 636 = dktX5_init_27 := dk_seg dksX5_init_26 24 rfl rfl
theorem dksX5_init_28 : cX5_init.data.toList.drop 660 = dktX5_init_28 := dk_seg dksX5_init_27 24 rfl rfl
theorem dksX5_init_29 : cX5_init.data.toList.drop 684 = dktX5_init_29 := dk_seg dksX5_init_28 24 rfl rfl
theorem dX5_init_0 : decode cX5_init 0 = .ok (.aload_n 0, 1) := dk_42 (dk_at dksX5_init_0 0 rfl rfl)
theorem dX5_init_1 : decode cX5_init 1 = .ok (.invokespecial 1, 3) := dk_183 0 1 (dk_at dksX5_init_0 1 rfl rfl)
theorem dX5_init_4 : decode cX5_init 4 = .ok (.aload_n 0, 1) := dk_42 (dk_at dksX5_init_0 4 rfl rfl)
theorem dX5_init_5 : decode cX5_init 5 = .ok (.bipush 18, 2) := dk_16 18 (dk_at dksX5_init_0 5 rfl rfl)
theorem dX5_init_7 : decode cX5_init 7 = .ok (.newarray .int, 2) := dk_188_10 (dk_at dksX5_init_0 7 rfl rfl)
theorem dX5_init_9 : decode cX5_init 9 = .ok (.putfield 7, 3) := dk_181 0 7 (dk_at dksX5_init_0 9 rfl rfl)
theorem dX5_init_12 : decode cX5_init 12 = .ok (.aload_n 0, 1) := dk_42 (dk_at dksX5_init_0 12 rfl rfl)
theorem dX5_init_13 : decode cX5_init 13 = .ok (.bipush 18, 2) := dk_16 18 (dk_at dksX5_init_0 13 rfl rfl)
theorem dX5_init_15 : decode cX5_init 15 = .ok (.newarray .int, 2) := dk_188_10 (dk_at dksX5_init_0 15 rfl rfl)
theorem dX5_init_17 : decode cX5_init 17 = .ok (.putfield 13, 3) := dk_181 0 13 (dk_at dksX5_init_0 17 rfl rfl)
theorem dX5_init_20 : decode cX5_init 20 = .ok (.aload_n 0, 1) := dk_42 (dk_at dksX5_init_0 20 rfl rfl)
theorem dX5_init_21 : decode cX5_init 21 = .ok (.bipush 6, 2) := dk_16 6 (dk_at dksX5_init_0 21 rfl rfl)
theorem dX5_init_23 : decode cX5_init 23 = .ok (.newarray .int, 2) := dk_188_10 (dk_at dksX5_init_1 0 rfl rfl)
theorem dX5_init_25 : decode cX5_init 25 = .ok (.putfield 16, 3) := dk_181 0 16 (dk_at dksX5_init_1 2 rfl rfl)
theorem dX5_init_28 : decode cX5_init 28 = .ok (.aload_n 0, 1) := dk_42 (dk_at dksX5_init_1 5 rfl rfl)
theorem dX5_init_29 : decode cX5_init 29 = .ok (.bipush 18, 2) := dk_16 18 (dk_at dksX5_init_1 6 rfl rfl)
theorem dX5_init_31 : decode cX5_init 31 = .ok (.newarray .int, 2) := dk_188_10 (dk_at dksX5_init_1 8 rfl rfl)
theorem dX5_init_33 : decode cX5_init 33 = .ok (.putfield 19, 3) := dk_181 0 19 (dk_at dksX5_init_1 10 rfl rfl)
theorem dX5_init_36 : decode cX5_init 36 = .ok (.aload_n 0, 1) := dk_42 (dk_at dksX5_init_1 13 rfl rfl)
theorem dX5_init_37 : decode cX5_init 37 = .ok (.bipush 36, 2) := dk_16 36 (dk_at dksX5_init_1 14 rfl rfl)
theorem dX5_init_39 : decode cX5_init 39 = .ok (.newarray .boolean, 2) := dk_188_4 (dk_at dksX5_init_1 16 rfl rfl)
theorem dX5_init_41 : decode cX5_init 41 = .ok (.putfield 22, 3) := dk_181 0 22 (dk_at dksX5_init_1 18 rfl rfl)
theorem dX5_init_44 : decode cX5_init 44 = .ok (.aload_n 0, 1) := dk_42 (dk_at dksX5_init_1 21 rfl rfl)
theorem dX5_init_45 : decode cX5_init 45 = .ok (.bipush 36, 2) := dk_16 36 (dk_at dksX5_init_1 22 rfl rfl)
theorem dX5_init_47 : decode cX5_init 47 = .ok (.newarray .boolean, 2) := dk_188_4 (dk_at dksX5_init_2 0 rfl rfl)
theorem dX5_init_49 : decode cX5_init 49 = .ok (.putfield 26, 3) := dk_181 0 26 (dk_at dksX5_init_2 2 rfl rfl)
theorem dX5_init_52 : decode cX5_init 52 = .ok (.aload_n 0, 1) := dk_42 (dk_at dksX5_init_2 5 rfl rfl)
theorem dX5_init_53 : decode cX5_init 53 = .ok (.bipush 6, 2) := dk_16 6 (dk_at dksX5_init_2 6 rfl rfl)
theorem dX5_init_55 : decode cX5_init 55 = .ok (.newarray .boolean, 2) := dk_188_4 (dk_at dksX5_init_2 8 rfl rfl)
theorem dX5_init_57 : decode cX5_init 57 = .ok (.putfield 29, 3) := dk_181 0 29 (dk_at dksX5_init_2 10 rfl rfl)
theorem dX5_init_60 : decode cX5_init 60 = .ok (.aload_n 0, 1) := dk_42 (dk_at dksX5_init_2 13 rfl rfl)
theorem dX5_init_61 : decode cX5_init 61 = .ok (.bipush 6, 2) := dk_16 6 (dk_at dksX5_init_2 14 rfl rfl)
theorem dX5_init_63 : decode cX5_init 63 = .ok (.newarray .boolean, 2) := dk_188_4 (dk_at dksX5_init_2 16 rfl rfl)
theorem dX5_init_65 : decode cX5_init 65 = .ok (.putfield 32, 3) := dk_181 0 32 (dk_at dksX5_init_2 18 rfl rfl)
theorem dX5_init_68 : decode cX5_init 68 = .ok (.aload_n 0, 1) := dk_42 (dk_at dksX5_init_2 21 rfl rfl)
theorem dX5_init_69 : decode cX5_init 69 = .ok (.bipush 9, 2) := dk_16 9 (dk_at dksX5_init_2 22 rfl rfl)
theorem dX5_init_71 : decode cX5_init 71 = .ok (.newarray .int, 2) := dk_188_10 (dk_at dksX5_init_3 0 rfl rfl)
theorem dX5_init_73 : decode cX5_init 73 = .ok (.putfield 35, 3) := dk_181 0 35 (dk_at dksX5_init_3 2 rfl rfl)
theorem dX5_init_76 : decode cX5_init 76 = .ok (.aload_n 0, 1) := dk_42 (dk_at dksX5_init_3 5 rfl rfl)
theorem dX5_init_77 : decode cX5_init 77 = .ok (.bipush 108, 2) := dk_16 108 (dk_at dksX5_init_3 6 rfl rfl)
theorem dX5_init_79 : decode cX5_init 79 = .ok (.newarray .int, 2) := dk_188_10 (dk_at dksX5_init_3 8 rfl rfl)
theorem dX5_init_81 : decode cX5_init 81 = .ok (.putfield 38, 3) := dk_181 0 38 (dk_at dksX5_init_3 10 rfl rfl)
theorem dX5_init_84 : decode cX5_init 84 = .ok (.aload_n 0, 1) := dk_42 (dk_at dksX5_init_3 13 rfl rfl)
theorem dX5_init_85 : decode cX5_init 85 = .ok (.bipush 108, 2) := dk_16 108 (dk_at dksX5_init_3 14 rfl rfl)
theorem dX5_init_87 : decode cX5_init 87 = .ok (.newarray .int, 2) := dk_188_10 (dk_at dksX5_init_3 16 rfl rfl)
theorem dX5_init_89 : decode cX5_init 89 = .ok (.putfield 41, 3) := dk_181 0 41 (dk_at dksX5_init_3 18 rfl rfl)
theorem dX5_init_92 : decode cX5_init 92 = .ok (.aload_n 0, 1) := dk_42 (dk_at dksX5_init_3 21 rfl rfl)
theorem dX5_init_93 : decode cX5_init 93 = .ok (.bipush 108, 2) := dk_16 108 (dk_at dksX5_init_3 22 rfl rfl)
theorem dX5_init_95 : decode cX5_init 95 = .ok (.newarray .int, 2) := dk_188_10 (dk_at dksX5_init_4 0 rfl rfl)
theorem dX5_init_97 : decode cX5_init 97 = .ok (.putfield 44, 3) := dk_181 0 44 (dk_at dksX5_init_4 2 rfl rfl)
theorem dX5_init_100 : decode cX5_init 100 = .ok (.aload_n 0, 1) := dk_42 (dk_at dksX5_init_4 5 rfl rfl)
theorem dX5_init_101 : decode cX5_init 101 = .ok (.bipush 108, 2) := dk_16 108 (dk_at dksX5_init_4 6 rfl rfl)
theorem dX5_init_103 : decode cX5_init 103 = .ok (.newarray .int, 2) := dk_188_10 (dk_at dksX5_init_4 8 rfl rfl)
theorem dX5_init_105 : decode cX5_init 105 = .ok (.putfield 47, 3) := dk_181 0 47 (dk_at dksX5_init_4 10 rfl rfl)
theorem dX5_init_108 : decode cX5_init 108 = .ok (.aload_n 0, 1) := dk_42 (dk_at dksX5_init_4 13 rfl rfl)
theorem dX5_init_109 : decode cX5_init 109 = .ok (.bipush 108, 2) := dk_16 108 (dk_at dksX5_init_4 14 rfl rfl)
theorem dX5_init_111 : decode cX5_init 111 = .ok (.newarray .int, 2) := dk_188_10 (dk_at dksX5_init_4 16 rfl rfl)
theorem dX5_init_113 : decode cX5_init 113 = .ok (.putfield 50, 3) := dk_181 0 50 (dk_at dksX5_init_4 18 rfl rfl)
theorem dX5_init_116 : decode cX5_init 116 = .ok (.aload_n 0, 1) := dk_42 (dk_at dksX5_init_4 21 rfl rfl)
theorem dX5_init_117 : decode cX5_init 117 = .ok (.bipush 96, 2) := dk_16 96 (dk_at dksX5_init_4 22 rfl rfl)
theorem dX5_init_119 : decode cX5_init 119 = .ok (.newarray .boolean, 2) := dk_188_4 (dk_at dksX5_init_5 0 rfl rfl)
theorem dX5_init_121 : decode cX5_init 121 = .ok (.putfield 53, 3) := dk_181 0 53 (dk_at dksX5_init_5 2 rfl rfl)
theorem dX5_init_124 : decode cX5_init 124 = .ok (.aload_n 0, 1) := dk_42 (dk_at dksX5_init_5 5 rfl rfl)
theorem dX5_init_125 : decode cX5_init 125 = .ok (.iconst 3, 1) := dk_6 (dk_at dksX5_init_5 6 rfl rfl)
theorem dX5_init_126 : decode cX5_init 126 = .ok (.newarray .int, 2) := dk_188_10 (dk_at dksX5_init_5 7 rfl rfl)
theorem dX5_init_128 : decode cX5_init 128 = .ok (.putfield 56, 3) := dk_181 0 56 (dk_at dksX5_init_5 9 rfl rfl)
theorem dX5_init_131 : decode cX5_init 131 = .ok (.aload_n 0, 1) := dk_42 (dk_at dksX5_init_5 12 rfl rfl)
theorem dX5_init_132 : decode cX5_init 132 = .ok (.iconst 3, 1) := dk_6 (dk_at dksX5_init_5 13 rfl rfl)
theorem dX5_init_133 : decode cX5_init 133 = .ok (.newarray .int, 2) := dk_188_10 (dk_at dksX5_init_5 14 rfl rfl)
theorem dX5_init_135 : decode cX5_init 135 = .ok (.putfield 59, 3) := dk_181 0 59 (dk_at dksX5_init_5 16 rfl rfl)
theorem dX5_init_138 : decode cX5_init 138 = .ok (.aload_n 0, 1) := dk_42 (dk_at dksX5_init_5 19 rfl rfl)
theorem dX5_init_139 : decode cX5_init 139 = .ok (.bipush 60, 2) := dk_16 60 (dk_at dksX5_init_5 20 rfl rfl)
theorem dX5_init_141 : decode cX5_init 141 = .ok (.newarray .int, 2) := dk_188_10 (dk_at dksX5_init_5 22 rfl rfl)
theorem dX5_init_143 : decode cX5_init 143 = .ok (.putfield 62, 3) := dk_181 0 62 (dk_at dksX5_init_6 0 rfl rfl)
theorem dX5_init_146 : decode cX5_init 146 = .ok (.aload_n 0, 1) := dk_42 (dk_at dksX5_init_6 3 rfl rfl)
theorem dX5_init_147 : decode cX5_init 147 = .ok (.bipush 60, 2) := dk_16 60 (dk_at dksX5_init_6 4 rfl rfl)
theorem dX5_init_149 : decode cX5_init 149 = .ok (.newarray .int, 2) := dk_188_10 (dk_at dksX5_init_6 6 rfl rfl)
theorem dX5_init_151 : decode cX5_init 151 = .ok (.putfield 65, 3) := dk_181 0 65 (dk_at dksX5_init_6 8 rfl rfl)
theorem dX5_init_154 : decode cX5_init 154 = .ok (.aload_n 0, 1) := dk_42 (dk_at dksX5_init_6 11 rfl rfl)
theorem dX5_init_155 : decode cX5_init 155 = .ok (.bipush 60, 2) := dk_16 60 (dk_at dksX5_init_6 12 rfl rfl)
theorem dX5_init_157 : decode cX5_init 157 = .ok (.newarray .int, 2) := dk_188_10 (dk_at dksX5_init_6 14 rfl rfl)
theorem dX5_init_159 : decode cX5_init 159 = .ok (.putfield 68, 3) := dk_181 0 68 (dk_at dksX5_init_6 16 rfl rfl)
theorem dX5_init_162 : decode cX5_init 162 = .ok (.aload_n 0, 1) := dk_42 (dk_at dksX5_init_6 19 rfl rfl)
theorem dX5_init_163 : decode cX5_init 163 = .ok (.bipush 60, 2) := dk_16 60 (dk_at dksX5_init_6 20 rfl rfl)
theorem dX5_init_165 : decode cX5_init 165 = .ok (.newarray .int, 2) := dk_188_10 (dk_at dksX5_init_6 22 rfl rfl)
theorem dX5_init_167 : decode cX5_init 167 = .ok (.putfield 71, 3) := dk_181 0 71 (dk_at dksX5_init_7 0 rfl rfl)
theorem dX5_init_170 : decode cX5_init 170 = .ok (.aload_n 0, 1) := dk_42 (dk_at dksX5_init_7 3 rfl rfl)
theorem dX5_init_171 : decode cX5_init 171 = .ok (.bipush 60, 2) := dk_16 60 (dk_at dksX5_init_7 4 rfl rfl)
theorem dX5_init_173 : decode cX5_init 173 = .ok (.newarray .int, 2) := dk_188_10 (dk_at dksX5_init_7 6 rfl rfl)
theorem dX5_init_175 : decode cX5_init 175 = .ok (.putfield 74, 3) := dk_181 0 74 (dk_at dksX5_init_7 8 rfl rfl)
theorem dX5_init_178 : decode cX5_init 178 = .ok (.aload_n 0, 1) := dk_42 (dk_at dksX5_init_7 11 rfl rfl)
theorem dX5_init_179 : decode cX5_init 179 = .ok (.bipush 60, 2) := dk_16 60 (dk_at dksX5_init_7 12 rfl rfl)
theorem dX5_init_181 : decode cX5_init 181 = .ok (.newarray .int, 2) := dk_188_10 (dk_at dksX5_init_7 14 rfl rfl)
theorem dX5_init_183 : decode cX5_init 183 = .ok (.putfield 77, 3) := dk_181 0 77 (dk_at dksX5_init_7 16 rfl rfl)
theorem dX5_init_186 : decode cX5_init 186 = .ok (.aload_n 0, 1) := dk_42 (dk_at dksX5_init_7 19 rfl rfl)
theorem dX5_init_187 : decode cX5_init 187 = .ok (.bipush 60, 2) := dk_16 60 (dk_at dksX5_init_7 20 rfl rfl)
theorem dX5_init_189 : decode cX5_init 189 = .ok (.newarray .int, 2) := dk_188_10 (dk_at dksX5_init_7 22 rfl rfl)
theorem dX5_init_191 : decode cX5_init 191 = .ok (.putfield 80, 3) := dk_181 0 80 (dk_at dksX5_init_8 0 rfl rfl)
theorem dX5_init_194 : decode cX5_init 194 = .ok (.aload_n 0, 1) := dk_42 (dk_at dksX5_init_8 3 rfl rfl)
theorem dX5_init_195 : decode cX5_init 195 = .ok (.bipush 60, 2) := dk_16 60 (dk_at dksX5_init_8 4 rfl rfl)
theorem dX5_init_197 : decode cX5_init 197 = .ok (.newarray .int, 2) := dk_188_10 (dk_at dksX5_init_8 6 rfl rfl)
theorem dX5_init_199 : decode cX5_init 199 = .ok (.putfield 83, 3) := dk_181 0 83 (dk_at dksX5_init_8 8 rfl rfl)
theorem dX5_init_202 : decode cX5_init 202 = .ok (.aload_n 0, 1) := dk_42 (dk_at dksX5_init_8 11 rfl rfl)
theorem dX5_init_203 : decode cX5_init 203 = .ok (.bipush 60, 2) := dk_16 60 (dk_at dksX5_init_8 12 rfl rfl)
theorem dX5_init_205 : decode cX5_init 205 = .ok (.newarray .int, 2) := dk_188_10 (dk_at dksX5_init_8 14 rfl rfl)
theorem dX5_init_207 : decode cX5_init 207 = .ok (.putfield 86, 3) := dk_181 0 86 (dk_at dksX5_init_8 16 rfl rfl)
theorem dX5_init_210 : decode cX5_init 210 = .ok (.aload_n 0, 1) := dk_42 (dk_at dksX5_init_8 19 rfl rfl)
theorem dX5_init_211 : decode cX5_init 211 = .ok (.sipush 180, 3) := dk_17 0 180 (dk_at dksX5_init_8 20 rfl rfl)
theorem dX5_init_214 : decode cX5_init 214 = .ok (.newarray .int, 2) := dk_188_10 (dk_at dksX5_init_9 0 rfl rfl)
theorem dX5_init_216 : decode cX5_init 216 = .ok (.putfield 89, 3) := dk_181 0 89 (dk_at dksX5_init_9 2 rfl rfl)
theorem dX5_init_219 : decode cX5_init 219 = .ok (.aload_n 0, 1) := dk_42 (dk_at dksX5_init_9 5 rfl rfl)
theorem dX5_init_220 : decode cX5_init 220 = .ok (.bipush 60, 2) := dk_16 60 (dk_at dksX5_init_9 6 rfl rfl)
theorem dX5_init_222 : decode cX5_init 222 = .ok (.newarray .int, 2) := dk_188_10 (dk_at dksX5_init_9 8 rfl rfl)
theorem dX5_init_224 : decode cX5_init 224 = .ok (.putfield 92, 3) := dk_181 0 92 (dk_at dksX5_init_9 10 rfl rfl)
theorem dX5_init_227 : decode cX5_init 227 = .ok (.aload_n 0, 1) := dk_42 (dk_at dksX5_init_9 13 rfl rfl)
theorem dX5_init_228 : decode cX5_init 228 = .ok (.bipush 60, 2) := dk_16 60 (dk_at dksX5_init_9 14 rfl rfl)
theorem dX5_init_230 : decode cX5_init 230 = .ok (.newarray .int, 2) := dk_188_10 (dk_at dksX5_init_9 16 rfl rfl)
theorem dX5_init_232 : decode cX5_init 232 = .ok (.putfield 95, 3) := dk_181 0 95 (dk_at dksX5_init_9 18 rfl rfl)
theorem dX5_init_235 : decode cX5_init 235 = .ok (.aload_n 0, 1) := dk_42 (dk_at dksX5_init_9 21 rfl rfl)
theorem dX5_init_236 : decode cX5_init 236 = .ok (.bipush 60, 2) := dk_16 60 (dk_at dksX5_init_9 22 rfl rfl)
theorem dX5_init_238 : decode cX5_init 238 = .ok (.newarray .int, 2) := dk_188_10 (dk_at dksX5_init_10 0 rfl rfl)
theorem dX5_init_240 : decode cX5_init 240 = .ok (.putfield 98, 3) := dk_181 0 98 (dk_at dksX5_init_10 2 rfl rfl)
theorem dX5_init_243 : decode cX5_init 243 = .ok (.aload_n 0, 1) := dk_42 (dk_at dksX5_init_10 5 rfl rfl)
theorem dX5_init_244 : decode cX5_init 244 = .ok (.bipush 60, 2) := dk_16 60 (dk_at dksX5_init_10 6 rfl rfl)
theorem dX5_init_246 : decode cX5_init 246 = .ok (.newarray .int, 2) := dk_188_10 (dk_at dksX5_init_10 8 rfl rfl)
theorem dX5_init_248 : decode cX5_init 248 = .ok (.putfield 101, 3) := dk_181 0 101 (dk_at dksX5_init_10 10 rfl rfl)
theorem dX5_init_251 : decode cX5_init 251 = .ok (.aload_n 0, 1) := dk_42 (dk_at dksX5_init_10 13 rfl rfl)
theorem dX5_init_252 : decode cX5_init 252 = .ok (.bipush 60, 2) := dk_16 60 (dk_at dksX5_init_10 14 rfl rfl)
theorem dX5_init_254 : decode cX5_init 254 = .ok (.newarray .boolean, 2) := dk_188_4 (dk_at dksX5_init_10 16 rfl rfl)
theorem dX5_init_256 : decode cX5_init 256 = .ok (.putfield 104, 3) := dk_181 0 104 (dk_at dksX5_init_10 18 rfl rfl)
theorem dX5_init_259 : decode cX5_init 259 = .ok (.aload_n 0, 1) := dk_42 (dk_at dksX5_init_10 21 rfl rfl)
theorem dX5_init_260 : decode cX5_init 260 = .ok (.sipush 180, 3) := dk_17 0 180 (dk_at dksX5_init_11 0 rfl rfl)
theorem dX5_init_263 : decode cX5_init 263 = .ok (.newarray .int, 2) := dk_188_10 (dk_at dksX5_init_11 3 rfl rfl)
theorem dX5_init_265 : decode cX5_init 265 = .ok (.putfield 107, 3) := dk_181 0 107 (dk_at dksX5_init_11 5 rfl rfl)
theorem dX5_init_268 : decode cX5_init 268 = .ok (.aload_n 0, 1) := dk_42 (dk_at dksX5_init_11 8 rfl rfl)
theorem dX5_init_269 : decode cX5_init 269 = .ok (.bipush 28, 2) := dk_16 28 (dk_at dksX5_init_11 9 rfl rfl)
theorem dX5_init_271 : decode cX5_init 271 = .ok (.newarray .int, 2) := dk_188_10 (dk_at dksX5_init_11 11 rfl rfl)
theorem dX5_init_273 : decode cX5_init 273 = .ok (.putfield 110, 3) := dk_181 0 110 (dk_at dksX5_init_11 13 rfl rfl)
theorem dX5_init_276 : decode cX5_init 276 = .ok (.aload_n 0, 1) := dk_42 (dk_at dksX5_init_11 16 rfl rfl)
theorem dX5_init_277 : decode cX5_init 277 = .ok (.iconst 4, 1) := dk_7 (dk_at dksX5_init_11 17 rfl rfl)
theorem dX5_init_278 : decode cX5_init 278 = .ok (.newarray .int, 2) := dk_188_10 (dk_at dksX5_init_11 18 rfl rfl)
theorem dX5_init_280 : decode cX5_init 280 = .ok (.putfield 113, 3) := dk_181 0 113 (dk_at dksX5_init_11 20 rfl rfl)
theorem dX5_init_283 : decode cX5_init 283 = .ok (.aload_n 0, 1) := dk_42 (dk_at dksX5_init_11 23 rfl rfl)
theorem dX5_init_284 : decode cX5_init 284 = .ok (.bipush 60, 2) := dk_16 60 (dk_at dksX5_init_12 0 rfl rfl)
theorem dX5_init_286 : decode cX5_init 286 = .ok (.newarray .int, 2) := dk_188_10 (dk_at dksX5_init_12 2 rfl rfl)
theorem dX5_init_288 : decode cX5_init 288 = .ok (.putfield 116, 3) := dk_181 0 116 (dk_at dksX5_init_12 4 rfl rfl)
theorem dX5_init_291 : decode cX5_init 291 = .ok (.aload_n 0, 1) := dk_42 (dk_at dksX5_init_12 7 rfl rfl)
theorem dX5_init_292 : decode cX5_init 292 = .ok (.bipush 60, 2) := dk_16 60 (dk_at dksX5_init_12 8 rfl rfl)
theorem dX5_init_294 : decode cX5_init 294 = .ok (.newarray .int, 2) := dk_188_10 (dk_at dksX5_init_12 10 rfl rfl)
theorem dX5_init_296 : decode cX5_init 296 = .ok (.putfield 119, 3) := dk_181 0 119 (dk_at dksX5_init_12 12 rfl rfl)
theorem dX5_init_299 : decode cX5_init 299 = .ok (.aload_n 0, 1) := dk_42 (dk_at dksX5_init_12 15 rfl rfl)
theorem dX5_init_300 : decode cX5_init 300 = .ok (.bipush 60, 2) := dk_16 60 (dk_at dksX5_init_12 16 rfl rfl)
theorem dX5_init_302 : decode cX5_init 302 = .ok (.newarray .int, 2) := dk_188_10 (dk_at dksX5_init_12 18 rfl rfl)
theorem dX5_init_304 : decode cX5_init 304 = .ok (.putfield 122, 3) := dk_181 0 122 (dk_at dksX5_init_12 20 rfl rfl)
theorem dX5_init_307 : decode cX5_init 307 = .ok (.aload_n 0, 1) := dk_42 (dk_at dksX5_init_12 23 rfl rfl)
theorem dX5_init_308 : decode cX5_init 308 = .ok (.bipush 60, 2) := dk_16 60 (dk_at dksX5_init_13 0 rfl rfl)
theorem dX5_init_310 : decode cX5_init 310 = .ok (.newarray .int, 2) := dk_188_10 (dk_at dksX5_init_13 2 rfl rfl)
theorem dX5_init_312 : decode cX5_init 312 = .ok (.putfield 125, 3) := dk_181 0 125 (dk_at dksX5_init_13 4 rfl rfl)
theorem dX5_init_315 : decode cX5_init 315 = .ok (.aload_n 0, 1) := dk_42 (dk_at dksX5_init_13 7 rfl rfl)
theorem dX5_init_316 : decode cX5_init 316 = .ok (.bipush 60, 2) := dk_16 60 (dk_at dksX5_init_13 8 rfl rfl)
theorem dX5_init_318 : decode cX5_init 318 = .ok (.newarray .int, 2) := dk_188_10 (dk_at dksX5_init_13 10 rfl rfl)
theorem dX5_init_320 : decode cX5_init 320 = .ok (.putfield 128, 3) := dk_181 0 128 (dk_at dksX5_init_13 12 rfl rfl)
theorem dX5_init_323 : decode cX5_init 323 = .ok (.aload_n 0, 1) := dk_42 (dk_at dksX5_init_13 15 rfl rfl)
theorem dX5_init_324 : decode cX5_init 324 = .ok (.bipush 60, 2) := dk_16 60 (dk_at dksX5_init_13 16 rfl rfl)
theorem dX5_init_326 : decode cX5_init 326 = .ok (.newarray .int, 2) := dk_188_10 (dk_at dksX5_init_13 18 rfl rfl)
theorem dX5_init_328 : decode cX5_init 328 = .ok (.putfield 131, 3) := dk_181 0 131 (dk_at dksX5_init_13 20 rfl rfl)
theorem dX5_init_331 : decode cX5_init 331 = .ok (.aload_n 0, 1) := dk_42 (dk_at dksX5_init_13 23 rfl rfl)
theorem dX5_init_332 : decode cX5_init 332 = .ok (.bipush 60, 2) := dk_16 60 (dk_at dksX5_init_14 0 rfl rfl)
theorem dX5_init_334 : decode cX5_init 334 = .ok (.newarray .int, 2) := dk_188_10 (dk_at dksX5_init_14 2 rfl rfl)
theorem dX5_init_336 : decode cX5_init 336 = .ok (.putfield 134, 3) := dk_181 0 134 (dk_at dksX5_init_14 4 rfl rfl)
theorem dX5_init_339 : decode cX5_init 339 = .ok (.aload_n 0, 1) := dk_42 (dk_at dksX5_init_14 7 rfl rfl)
theorem dX5_init_340 : decode cX5_init 340 = .ok (.bipush 60, 2) := dk_16 60 (dk_at dksX5_init_14 8 rfl rfl)
theorem dX5_init_342 : decode cX5_init 342 = .ok (.newarray .int, 2) := dk_188_10 (dk_at dksX5_init_14 10 rfl rfl)
theorem dX5_init_344 : decode cX5_init 344 = .ok (.putfield 137, 3) := dk_181 0 137 (dk_at dksX5_init_14 12 rfl rfl)
theorem dX5_init_347 : decode cX5_init 347 = .ok (.aload_n 0, 1) := dk_42 (dk_at dksX5_init_14 15 rfl rfl)
theorem dX5_init_348 : decode cX5_init 348 = .ok (.bipush 60, 2) := dk_16 60 (dk_at dksX5_init_14 16 rfl rfl)
theorem dX5_init_350 : decode cX5_init 350 = .ok (.newarray .int, 2) := dk_188_10 (dk_at dksX5_init_14 18 rfl rfl)
theorem dX5_init_352 : decode cX5_init 352 = .ok (.putfield 140, 3) := dk_181 0 140 (dk_at dksX5_init_14 20 rfl rfl)
theorem dX5_init_355 : decode cX5_init 355 = .ok (.aload_n 0, 1) := dk_42 (dk_at dksX5_init_14 23 rfl rfl)
theorem dX5_init_356 : decode cX5_init 356 = .ok (.bipush 60, 2) := dk_16 60 (dk_at dksX5_init_15 0 rfl rfl)
theorem dX5_init_358 : decode cX5_init 358 = .ok (.newarray .int, 2) := dk_188_10 (dk_at dksX5_init_15 2 rfl rfl)
theorem dX5_init_360 : decode cX5_init 360 = .ok (.putfield 143, 3) := dk_181 0 143 (dk_at dksX5_init_15 4 rfl rfl)
theorem dX5_init_363 : decode cX5_init 363 = .ok (.aload_n 0, 1) := dk_42 (dk_at dksX5_init_15 7 rfl rfl)
theorem dX5_init_364 : decode cX5_init 364 = .ok (.bipush 60, 2) := dk_16 60 (dk_at dksX5_init_15 8 rfl rfl)
theorem dX5_init_366 : decode cX5_init 366 = .ok (.newarray .boolean, 2) := dk_188_4 (dk_at dksX5_init_15 10 rfl rfl)
theorem dX5_init_368 : decode cX5_init 368 = .ok (.putfield 146, 3) := dk_181 0 146 (dk_at dksX5_init_15 12 rfl rfl)
theorem dX5_init_371 : decode cX5_init 371 = .ok (.aload_n 0, 1) := dk_42 (dk_at dksX5_init_15 15 rfl rfl)
theorem dX5_init_372 : decode cX5_init 372 = .ok (.sipush 200, 3) := dk_17 0 200 (dk_at dksX5_init_15 16 rfl rfl)
theorem dX5_init_375 : decode cX5_init 375 = .ok (.newarray .int, 2) := dk_188_10 (dk_at dksX5_init_15 19 rfl rfl)
theorem dX5_init_377 : decode cX5_init 377 = .ok (.putfield 149, 3) := dk_181 0 149 (dk_at dksX5_init_15 21 rfl rfl)
theorem dX5_init_380 : decode cX5_init 380 = .ok (.aload_n 0, 1) := dk_42 (dk_at dksX5_init_16 0 rfl rfl)
theorem dX5_init_381 : decode cX5_init 381 = .ok (.sipush 200, 3) := dk_17 0 200 (dk_at dksX5_init_16 1 rfl rfl)
theorem dX5_init_384 : decode cX5_init 384 = .ok (.newarray .int, 2) := dk_188_10 (dk_at dksX5_init_16 4 rfl rfl)
theorem dX5_init_386 : decode cX5_init 386 = .ok (.putfield 152, 3) := dk_181 0 152 (dk_at dksX5_init_16 6 rfl rfl)
theorem dX5_init_389 : decode cX5_init 389 = .ok (.aload_n 0, 1) := dk_42 (dk_at dksX5_init_16 9 rfl rfl)
theorem dX5_init_390 : decode cX5_init 390 = .ok (.sipush 200, 3) := dk_17 0 200 (dk_at dksX5_init_16 10 rfl rfl)
theorem dX5_init_393 : decode cX5_init 393 = .ok (.newarray .int, 2) := dk_188_10 (dk_at dksX5_init_16 13 rfl rfl)
theorem dX5_init_395 : decode cX5_init 395 = .ok (.putfield 155, 3) := dk_181 0 155 (dk_at dksX5_init_16 15 rfl rfl)
theorem dX5_init_398 : decode cX5_init 398 = .ok (.aload_n 0, 1) := dk_42 (dk_at dksX5_init_16 18 rfl rfl)
theorem dX5_init_399 : decode cX5_init 399 = .ok (.sipush 200, 3) := dk_17 0 200 (dk_at dksX5_init_16 19 rfl rfl)
theorem dX5_init_402 : decode cX5_init 402 = .ok (.newarray .int, 2) := dk_188_10 (dk_at dksX5_init_16 22 rfl rfl)
theorem dX5_init_404 : decode cX5_init 404 = .ok (.putfield 158, 3) := dk_181 0 158 (dk_at dksX5_init_17 0 rfl rfl)
theorem dX5_init_407 : decode cX5_init 407 = .ok (.aload_n 0, 1) := dk_42 (dk_at dksX5_init_17 3 rfl rfl)
theorem dX5_init_408 : decode cX5_init 408 = .ok (.sipush 200, 3) := dk_17 0 200 (dk_at dksX5_init_17 4 rfl rfl)
theorem dX5_init_411 : decode cX5_init 411 = .ok (.newarray .int, 2) := dk_188_10 (dk_at dksX5_init_17 7 rfl rfl)
theorem dX5_init_413 : decode cX5_init 413 = .ok (.putfield 161, 3) := dk_181 0 161 (dk_at dksX5_init_17 9 rfl rfl)
theorem dX5_init_416 : decode cX5_init 416 = .ok (.aload_n 0, 1) := dk_42 (dk_at dksX5_init_17 12 rfl rfl)
theorem dX5_init_417 : decode cX5_init 417 = .ok (.sipush 200, 3) := dk_17 0 200 (dk_at dksX5_init_17 13 rfl rfl)
theorem dX5_init_420 : decode cX5_init 420 = .ok (.newarray .int, 2) := dk_188_10 (dk_at dksX5_init_17 16 rfl rfl)
theorem dX5_init_422 : decode cX5_init 422 = .ok (.putfield 164, 3) := dk_181 0 164 (dk_at dksX5_init_17 18 rfl rfl)
theorem dX5_init_425 : decode cX5_init 425 = .ok (.aload_n 0, 1) := dk_42 (dk_at dksX5_init_17 21 rfl rfl)
theorem dX5_init_426 : decode cX5_init 426 = .ok (.sipush 200, 3) := dk_17 0 200 (dk_at dksX5_init_18 0 rfl rfl)
theorem dX5_init_429 : decode cX5_init 429 = .ok (.newarray .int, 2) := dk_188_10 (dk_at dksX5_init_18 3 rfl rfl)
theorem dX5_init_431 : decode cX5_init 431 = .ok (.putfield 167, 3) := dk_181 0 167 (dk_at dksX5_init_18 5 rfl rfl)
theorem dX5_init_434 : decode cX5_init 434 = .ok (.aload_n 0, 1) := dk_42 (dk_at dksX5_init_18 8 rfl rfl)
theorem dX5_init_435 : decode cX5_init 435 = .ok (.iconst 1, 1) := dk_4 (dk_at dksX5_init_18 9 rfl rfl)
theorem dX5_init_436 : decode cX5_init 436 = .ok (.putfield 170, 3) := dk_181 0 170 (dk_at dksX5_init_18 10 rfl rfl)
theorem dX5_init_439 : decode cX5_init 439 = .ok (.aload_n 0, 1) := dk_42 (dk_at dksX5_init_18 13 rfl rfl)
theorem dX5_init_440 : decode cX5_init 440 = .ok (.iconst (-1), 1) := dk_2 (dk_at dksX5_init_18 14 rfl rfl)
theorem dX5_init_441 : decode cX5_init 441 = .ok (.putfield 174, 3) := dk_181 0 174 (dk_at dksX5_init_18 15 rfl rfl)
theorem dX5_init_444 : decode cX5_init 444 = .ok (.aload_n 0, 1) := dk_42 (dk_at dksX5_init_18 18 rfl rfl)
theorem dX5_init_445 : decode cX5_init 445 = .ok (.bipush 20, 2) := dk_16 20 (dk_at dksX5_init_18 19 rfl rfl)
theorem dX5_init_447 : decode cX5_init 447 = .ok (.newarray .boolean, 2) := dk_188_4 (dk_at dksX5_init_18 21 rfl rfl)
theorem dX5_init_449 : decode cX5_init 449 = .ok (.putfield 177, 3) := dk_181 0 177 (dk_at dksX5_init_19 0 rfl rfl)
theorem dX5_init_452 : decode cX5_init 452 = .ok (.aload_n 0, 1) := dk_42 (dk_at dksX5_init_19 3 rfl rfl)
theorem dX5_init_453 : decode cX5_init 453 = .ok (.bipush 20, 2) := dk_16 20 (dk_at dksX5_init_19 4 rfl rfl)
theorem dX5_init_455 : decode cX5_init 455 = .ok (.newarray .int, 2) := dk_188_10 (dk_at dksX5_init_19 6 rfl rfl)
theorem dX5_init_457 : decode cX5_init 457 = .ok (.putfield 180, 3) := dk_181 0 180 (dk_at dksX5_init_19 8 rfl rfl)
theorem dX5_init_460 : decode cX5_init 460 = .ok (.aload_n 0, 1) := dk_42 (dk_at dksX5_init_19 11 rfl rfl)
theorem dX5_init_461 : decode cX5_init 461 = .ok (.iconst 4, 1) := dk_7 (dk_at dksX5_init_19 12 rfl rfl)
theorem dX5_init_462 : decode cX5_init 462 = .ok (.newarray .boolean, 2) := dk_188_4 (dk_at dksX5_init_19 13 rfl rfl)
theorem dX5_init_464 : decode cX5_init 464 = .ok (.putfield 183, 3) := dk_181 0 183 (dk_at dksX5_init_19 15 rfl rfl)
theorem dX5_init_467 : decode cX5_init 467 = .ok (.aload_n 0, 1) := dk_42 (dk_at dksX5_init_19 18 rfl rfl)
theorem dX5_init_468 : decode cX5_init 468 = .ok (.iconst 4, 1) := dk_7 (dk_at dksX5_init_19 19 rfl rfl)
theorem dX5_init_469 : decode cX5_init 469 = .ok (.newarray .int, 2) := dk_188_10 (dk_at dksX5_init_19 20 rfl rfl)
theorem dX5_init_471 : decode cX5_init 471 = .ok (.putfield 186, 3) := dk_181 0 186 (dk_at dksX5_init_20 0 rfl rfl)
theorem dX5_init_474 : decode cX5_init 474 = .ok (.aload_n 0, 1) := dk_42 (dk_at dksX5_init_20 3 rfl rfl)
theorem dX5_init_475 : decode cX5_init 475 = .ok (.iconst 4, 1) := dk_7 (dk_at dksX5_init_20 4 rfl rfl)
theorem dX5_init_476 : decode cX5_init 476 = .ok (.newarray .int, 2) := dk_188_10 (dk_at dksX5_init_20 5 rfl rfl)
theorem dX5_init_478 : decode cX5_init 478 = .ok (.putfield 189, 3) := dk_181 0 189 (dk_at dksX5_init_20 7 rfl rfl)
theorem dX5_init_481 : decode cX5_init 481 = .ok (.aload_n 0, 1) := dk_42 (dk_at dksX5_init_20 10 rfl rfl)
theorem dX5_init_482 : decode cX5_init 482 = .ok (.sipush 240, 3) := dk_17 0 240 (dk_at dksX5_init_20 11 rfl rfl)
theorem dX5_init_485 : decode cX5_init 485 = .ok (.newarray .boolean, 2) := dk_188_4 (dk_at dksX5_init_20 14 rfl rfl)
theorem dX5_init_487 : decode cX5_init 487 = .ok (.putfield 192, 3) := dk_181 0 192 (dk_at dksX5_init_20 16 rfl rfl)
theorem dX5_init_490 : decode cX5_init 490 = .ok (.aload_n 0, 1) := dk_42 (dk_at dksX5_init_20 19 rfl rfl)
theorem dX5_init_491 : decode cX5_init 491 = .ok (.bipush 20, 2) := dk_16 20 (dk_at dksX5_init_20 20 rfl rfl)
theorem dX5_init_493 : decode cX5_init 493 = .ok (.newarray .int, 2) := dk_188_10 (dk_at dksX5_init_20 22 rfl rfl)
theorem dX5_init_495 : decode cX5_init 495 = .ok (.putfield 195, 3) := dk_181 0 195 (dk_at dksX5_init_21 0 rfl rfl)
theorem dX5_init_498 : decode cX5_init 498 = .ok (.aload_n 0, 1) := dk_42 (dk_at dksX5_init_21 3 rfl rfl)
theorem dX5_init_499 : decode cX5_init 499 = .ok (.bipush 20, 2) := dk_16 20 (dk_at dksX5_init_21 4 rfl rfl)
theorem dX5_init_501 : decode cX5_init 501 = .ok (.newarray .int, 2) := dk_188_10 (dk_at dksX5_init_21 6 rfl rfl)
theorem dX5_init_503 : decode cX5_init 503 = .ok (.putfield 198, 3) := dk_181 0 198 (dk_at dksX5_init_21 8 rfl rfl)
theorem dX5_init_506 : decode cX5_init 506 = .ok (.aload_n 0, 1) := dk_42 (dk_at dksX5_init_21 11 rfl rfl)
theorem dX5_init_507 : decode cX5_init 507 = .ok (.bipush 20, 2) := dk_16 20 (dk_at dksX5_init_21 12 rfl rfl)
theorem dX5_init_509 : decode cX5_init 509 = .ok (.newarray .boolean, 2) := dk_188_4 (dk_at dksX5_init_21 14 rfl rfl)
theorem dX5_init_511 : decode cX5_init 511 = .ok (.putfield 201, 3) := dk_181 0 201 (dk_at dksX5_init_21 16 rfl rfl)
theorem dX5_init_514 : decode cX5_init 514 = .ok (.aload_n 0, 1) := dk_42 (dk_at dksX5_init_21 19 rfl rfl)
theorem dX5_init_515 : decode cX5_init 515 = .ok (.bipush 20, 2) := dk_16 20 (dk_at dksX5_init_21 20 rfl rfl)
theorem dX5_init_517 : decode cX5_init 517 = .ok (.newarray .int, 2) := dk_188_10 (dk_at dksX5_init_21 22 rfl rfl)
theorem dX5_init_519 : decode cX5_init 519 = .ok (.putfield 204, 3) := dk_181 0 204 (dk_at dksX5_init_22 0 rfl rfl)
theorem dX5_init_522 : decode cX5_init 522 = .ok (.aload_n 0, 1) := dk_42 (dk_at dksX5_init_22 3 rfl rfl)
theorem dX5_init_523 : decode cX5_init 523 = .ok (.bipush 20, 2) := dk_16 20 (dk_at dksX5_init_22 4 rfl rfl)
theorem dX5_init_525 : decode cX5_init 525 = .ok (.newarray .int, 2) := dk_188_10 (dk_at dksX5_init_22 6 rfl rfl)
theorem dX5_init_527 : decode cX5_init 527 = .ok (.putfield 207, 3) := dk_181 0 207 (dk_at dksX5_init_22 8 rfl rfl)
theorem dX5_init_530 : decode cX5_init 530 = .ok (.aload_n 0, 1) := dk_42 (dk_at dksX5_init_22 11 rfl rfl)
theorem dX5_init_531 : decode cX5_init 531 = .ok (.bipush 6, 2) := dk_16 6 (dk_at dksX5_init_22 12 rfl rfl)
theorem dX5_init_533 : decode cX5_init 533 = .ok (.newarray .int, 2) := dk_188_10 (dk_at dksX5_init_22 14 rfl rfl)
theorem dX5_init_535 : decode cX5_init 535 = .ok (.putfield 210, 3) := dk_181 0 210 (dk_at dksX5_init_22 16 rfl rfl)
theorem dX5_init_538 : decode cX5_init 538 = .ok (.aload_n 0, 1) := dk_42 (dk_at dksX5_init_22 19 rfl rfl)
theorem dX5_init_539 : decode cX5_init 539 = .ok (.sipush 1200, 3) := dk_17 4 176 (dk_at dksX5_init_22 20 rfl rfl)
theorem dX5_init_542 : decode cX5_init 542 = .ok (.newarray .int, 2) := dk_188_10 (dk_at dksX5_init_23 0 rfl rfl)
theorem dX5_init_544 : decode cX5_init 544 = .ok (.putfield 213, 3) := dk_181 0 213 (dk_at dksX5_init_23 2 rfl rfl)
theorem dX5_init_547 : decode cX5_init 547 = .ok (.aload_n 0, 1) := dk_42 (dk_at dksX5_init_23 5 rfl rfl)
theorem dX5_init_548 : decode cX5_init 548 = .ok (.sipush 1200, 3) := dk_17 4 176 (dk_at dksX5_init_23 6 rfl rfl)
theorem dX5_init_551 : decode cX5_init 551 = .ok (.newarray .int, 2) := dk_188_10 (dk_at dksX5_init_23 9 rfl rfl)
theorem dX5_init_553 : decode cX5_init 553 = .ok (.putfield 216, 3) := dk_181 0 216 (dk_at dksX5_init_23 11 rfl rfl)
theorem dX5_init_556 : decode cX5_init 556 = .ok (.aload_n 0, 1) := dk_42 (dk_at dksX5_init_23 14 rfl rfl)
theorem dX5_init_557 : decode cX5_init 557 = .ok (.sipush 1200, 3) := dk_17 4 176 (dk_at dksX5_init_23 15 rfl rfl)
theorem dX5_init_560 : decode cX5_init 560 = .ok (.newarray .int, 2) := dk_188_10 (dk_at dksX5_init_23 18 rfl rfl)
theorem dX5_init_562 : decode cX5_init 562 = .ok (.putfield 219, 3) := dk_181 0 219 (dk_at dksX5_init_23 20 rfl rfl)
theorem dX5_init_565 : decode cX5_init 565 = .ok (.aload_n 0, 1) := dk_42 (dk_at dksX5_init_23 23 rfl rfl)
theorem dX5_init_566 : decode cX5_init 566 = .ok (.bipush 7, 2) := dk_16 7 (dk_at dksX5_init_24 0 rfl rfl)
theorem dX5_init_568 : decode cX5_init 568 = .ok (.putfield 222, 3) := dk_181 0 222 (dk_at dksX5_init_24 2 rfl rfl)
theorem dX5_init_571 : decode cX5_init 571 = .ok (.iconst 0, 1) := dk_3 (dk_at dksX5_init_24 5 rfl rfl)
theorem dX5_init_572 : decode cX5_init 572 = .ok (.istore_n 1, 1) := dk_60 (dk_at dksX5_init_24 6 rfl rfl)
theorem dX5_init_573 : decode cX5_init 573 = .ok (.iload_n 1, 1) := dk_27 (dk_at dksX5_init_24 7 rfl rfl)
theorem dX5_init_574 : decode cX5_init 574 = .ok (.bipush 18, 2) := dk_16 18 (dk_at dksX5_init_24 8 rfl rfl)
theorem dX5_init_576 : decode cX5_init 576 = .ok (.if_icmp .ge 18, 3) := dk_162 0 18 (dk_at dksX5_init_24 10 rfl rfl)
theorem dX5_init_579 : decode cX5_init 579 = .ok (.aload_n 0, 1) := dk_42 (dk_at dksX5_init_24 13 rfl rfl)
theorem dX5_init_580 : decode cX5_init 580 = .ok (.getfield 19, 3) := dk_180 0 19 (dk_at dksX5_init_24 14 rfl rfl)
theorem dX5_init_583 : decode cX5_init 583 = .ok (.iload_n 1, 1) := dk_27 (dk_at dksX5_init_24 17 rfl rfl)
theorem dX5_init_584 : decode cX5_init 584 = .ok (.sipush (-1000), 3) := dk_17 252 24 (dk_at dksX5_init_24 18 rfl rfl)
theorem dX5_init_587 : decode cX5_init 587 = .ok (.iastore, 1) := dk_79 (dk_at dksX5_init_24 21 rfl rfl)
theorem dX5_init_588 : decode cX5_init 588 = .ok (.iinc 1 1, 3) := dk_132 1 1 (dk_at dksX5_init_25 0 rfl rfl)
theorem dX5_init_591 : decode cX5_init 591 = .ok (.goto (-18), 3) := dk_167 255 238 (dk_at dksX5_init_25 3 rfl rfl)
theorem dX5_init_594 : decode cX5_init 594 = .ok (.aload_n 0, 1) := dk_42 (dk_at dksX5_init_25 6 rfl rfl)
theorem dX5_init_595 : decode cX5_init 595 = .ok (.getfield 56, 3) := dk_180 0 56 (dk_at dksX5_init_25 7 rfl rfl)
theorem dX5_init_598 : decode cX5_init 598 = .ok (.iconst 0, 1) := dk_3 (dk_at dksX5_init_25 10 rfl rfl)
theorem dX5_init_599 : decode cX5_init 599 = .ok (.iconst 2, 1) := dk_5 (dk_at dksX5_init_25 11 rfl rfl)
theorem dX5_init_600 : decode cX5_init 600 = .ok (.iastore, 1) := dk_79 (dk_at dksX5_init_25 12 rfl rfl)
theorem dX5_init_601 : decode cX5_init 601 = .ok (.aload_n 0, 1) := dk_42 (dk_at dksX5_init_25 13 rfl rfl)
theorem dX5_init_602 : decode cX5_init 602 = .ok (.getfield 56, 3) := dk_180 0 56 (dk_at dksX5_init_25 14 rfl rfl)
theorem dX5_init_605 : decode cX5_init 605 = .ok (.iconst 1, 1) := dk_4 (dk_at dksX5_init_25 17 rfl rfl)
theorem dX5_init_606 : decode cX5_init 606 = .ok (.iconst 1, 1) := dk_4 (dk_at dksX5_init_25 18 rfl rfl)
theorem dX5_init_607 : decode cX5_init 607 = .ok (.iastore, 1) := dk_79 (dk_at dksX5_init_25 19 rfl rfl)
theorem dX5_init_608 : decode cX5_init 608 = .ok (.aload_n 0, 1) := dk_42 (dk_at dksX5_init_25 20 rfl rfl)
theorem dX5_init_609 : decode cX5_init 609 = .ok (.getfield 56, 3) := dk_180 0 56 (dk_at dksX5_init_25 21 rfl rfl)
theorem dX5_init_612 : decode cX5_init 612 = .ok (.iconst 2, 1) := dk_5 (dk_at dksX5_init_26 0 rfl rfl)
theorem dX5_init_613 : decode cX5_init 613 = .ok (.iconst 1, 1) := dk_4 (dk_at dksX5_init_26 1 rfl rfl)
theorem dX5_init_614 : decode cX5_init 614 = .ok (.iastore, 1) := dk_79 (dk_at dksX5_init_26 2 rfl rfl)
theorem dX5_init_615 : decode cX5_init 615 = .ok (.iconst 0, 1) := dk_3 (dk_at dksX5_init_26 3 rfl rfl)
theorem dX5_init_616 : decode cX5_init 616 = .ok (.istore_n 1, 1) := dk_60 (dk_at dksX5_init_26 4 rfl rfl)
theorem dX5_init_617 : decode cX5_init 617 = .ok (.iload_n 1, 1) := dk_27 (dk_at dksX5_init_26 5 rfl rfl)
theorem dX5_init_618 : decode cX5_init 618 = .ok (.iconst 3, 1) := dk_6 (dk_at dksX5_init_26 6 rfl rfl)
theorem dX5_init_619 : decode cX5_init 619 = .ok (.if_icmp .ge 16, 3) := dk_162 0 16 (dk_at dksX5_init_26 7 rfl rfl)
theorem dX5_init_622 : decode cX5_init 622 = .ok (.aload_n 0, 1) := dk_42 (dk_at dksX5_init_26 10 rfl rfl)
theorem dX5_init_623 : decode cX5_init 623 = .ok (.getfield 59, 3) := dk_180 0 59 (dk_at dksX5_init_26 11 rfl rfl)
theorem dX5_init_626 : decode cX5_init 626 = .ok (.iload_n 1, 1) := dk_27 (dk_at dksX5_init_26 14 rfl rfl)
theorem dX5_init_627 : decode cX5_init 627 = .ok (.iconst (-1), 1) := dk_2 (dk_at dksX5_init_26 15 rfl rfl)
theorem dX5_init_628 : decode cX5_init 628 = .ok (.iastore, 1) := dk_79 (dk_at dksX5_init_26 16 rfl rfl)
theorem dX5_init_629 : decode cX5_init 629 = .ok (.iinc 1 1, 3) := dk_132 1 1 (dk_at dksX5_init_26 17 rfl rfl)
theorem dX5_init_632 : decode cX5_init 632 = .ok (.goto (-15), 3) := dk_167 255 241 (dk_at dksX5_init_26 20 rfl rfl)
theorem dX5_init_635 : decode cX5_init 635 = .ok (.iconst 0, 1) := dk_3 (dk_at dksX5_init_26 23 rfl rfl)
theorem dX5_init_636 : decode cX5_init 636 = .ok (.istore_n 1, 1) := dk_60 (dk_at dksX5_init_27 0 rfl rfl)
theorem dX5_init_637 : decode cX5_init 637 = .ok (.iload_n 1, 1) := dk_27 (dk_at dksX5_init_27 1 rfl rfl)
theorem dX5_init_638 : decode cX5_init 638 = .ok (.iconst 4, 1) := dk_7 (dk_at dksX5_init_27 2 rfl rfl)
theorem dX5_init_639 : decode cX5_init 639 = .ok (.if_icmp .ge 16, 3) := dk_162 0 16 (dk_at dksX5_init_27 3 rfl rfl)
theorem dX5_init_642 : decode cX5_init 642 = .ok (.aload_n 0, 1) := dk_42 (dk_at dksX5_init_27 6 rfl rfl)
theorem dX5_init_643 : decode cX5_init 643 = .ok (.getfield 186, 3) := dk_180 0 186 (dk_at dksX5_init_27 7 rfl rfl)
theorem dX5_init_646 : decode cX5_init 646 = .ok (.iload_n 1, 1) := dk_27 (dk_at dksX5_init_27 10 rfl rfl)
theorem dX5_init_647 : decode cX5_init 647 = .ok (.iconst 1, 1) := dk_4 (dk_at dksX5_init_27 11 rfl rfl)
theorem dX5_init_648 : decode cX5_init 648 = .ok (.iastore, 1) := dk_79 (dk_at dksX5_init_27 12 rfl rfl)
theorem dX5_init_649 : decode cX5_init 649 = .ok (.iinc 1 1, 3) := dk_132 1 1 (dk_at dksX5_init_27 13 rfl rfl)
theorem dX5_init_652 : decode cX5_init 652 = .ok (.goto (-15), 3) := dk_167 255 241 (dk_at dksX5_init_27 16 rfl rfl)
theorem dX5_init_655 : decode cX5_init 655 = .ok (.iconst 0, 1) := dk_3 (dk_at dksX5_init_27 19 rfl rfl)
theorem dX5_init_656 : decode cX5_init 656 = .ok (.istore_n 1, 1) := dk_60 (dk_at dksX5_init_27 20 rfl rfl)
theorem dX5_init_657 : decode cX5_init 657 = .ok (.iload_n 1, 1) := dk_27 (dk_at dksX5_init_27 21 rfl rfl)
theorem dX5_init_658 : decode cX5_init 658 = .ok (.bipush 20, 2) := dk_16 20 (dk_at dksX5_init_27 22 rfl rfl)
theorem dX5_init_660 : decode cX5_init 660 = .ok (.if_icmp .ge 16, 3) := dk_162 0 16 (dk_at dksX5_init_28 0 rfl rfl)
theorem dX5_init_663 : decode cX5_init 663 = .ok (.aload_n 0, 1) := dk_42 (dk_at dksX5_init_28 3 rfl rfl)
theorem dX5_init_664 : decode cX5_init 664 = .ok (.getfield 180, 3) := dk_180 0 180 (dk_at dksX5_init_28 4 rfl rfl)
theorem dX5_init_667 : decode cX5_init 667 = .ok (.iload_n 1, 1) := dk_27 (dk_at dksX5_init_28 7 rfl rfl)
theorem dX5_init_668 : decode cX5_init 668 = .ok (.iconst (-1), 1) := dk_2 (dk_at dksX5_init_28 8 rfl rfl)
theorem dX5_init_669 : decode cX5_init 669 = .ok (.iastore, 1) := dk_79 (dk_at dksX5_init_28 9 rfl rfl)
theorem dX5_init_670 : decode cX5_init 670 = .ok (.iinc 1 1, 3) := dk_132 1 1 (dk_at dksX5_init_28 10 rfl rfl)
theorem dX5_init_673 : decode cX5_init 673 = .ok (.goto (-16), 3) := dk_167 255 240 (dk_at dksX5_init_28 13 rfl rfl)
theorem dX5_init_676 : decode cX5_init 676 = .ok (.iconst 0, 1) := dk_3 (dk_at dksX5_init_28 16 rfl rfl)
theorem dX5_init_677 : decode cX5_init 677 = .ok (.istore_n 1, 1) := dk_60 (dk_at dksX5_init_28 17 rfl rfl)
theorem dX5_init_678 : decode cX5_init 678 = .ok (.iload_n 1, 1) := dk_27 (dk_at dksX5_init_28 18 rfl rfl)
theorem dX5_init_679 : decode cX5_init 679 = .ok (.bipush 6, 2) := dk_16 6 (dk_at dksX5_init_28 19 rfl rfl)
theorem dX5_init_681 : decode cX5_init 681 = .ok (.if_icmp .ge 16, 3) := dk_162 0 16 (dk_at dksX5_init_28 21 rfl rfl)
theorem dX5_init_684 : decode cX5_init 684 = .ok (.aload_n 0, 1) := dk_42 (dk_at dksX5_init_29 0 rfl rfl)
theorem dX5_init_685 : decode cX5_init 685 = .ok (.getfield 210, 3) := dk_180 0 210 (dk_at dksX5_init_29 1 rfl rfl)
theorem dX5_init_688 : decode cX5_init 688 = .ok (.iload_n 1, 1) := dk_27 (dk_at dksX5_init_29 4 rfl rfl)
theorem dX5_init_689 : decode cX5_init 689 = .ok (.iconst (-1), 1) := dk_2 (dk_at dksX5_init_29 5 rfl rfl)
theorem dX5_init_690 : decode cX5_init 690 = .ok (.iastore, 1) := dk_79 (dk_at dksX5_init_29 6 rfl rfl)
theorem dX5_init_691 : decode cX5_init 691 = .ok (.iinc 1 1, 3) := dk_132 1 1 (dk_at dksX5_init_29 7 rfl rfl)
theorem dX5_init_694 : decode cX5_init 694 = .ok (.goto (-16), 3) := dk_167 255 240 (dk_at dksX5_init_29 10 rfl rfl)
theorem dX5_init_697 : decode cX5_init 697 = .ok (.return_, 1) := dk_177 (dk_at dksX5_init_29 13 rfl rfl)
abbrev cX5_thrown : ByteArray := prog_14_method_2_code
def yX5_thrown : MethodName := ⟨RX5, "thrown", "()I"⟩
theorem dX5_thrown_0 : decode cX5_thrown 0 = .ok (.aload_n 0, 1) := by decide +kernel
theorem dX5_thrown_1 : decode cX5_thrown 1 = .ok (.getfield 225, 3) := by decide +kernel
theorem dX5_thrown_4 : decode cX5_thrown 4 = .ok (.ireturn, 1) := by decide +kernel
abbrev cX5_audits : ByteArray := prog_14_method_15_code
def yX5_audits : MethodName := ⟨RX5, "audits", "()I"⟩
def dkwX5_audits_0 : List UInt8 := [42, 3, 181, 0, 225, 42, 180, 0, 244, 172]
abbrev dktX5_audits_0 : List UInt8 := dkwX5_audits_0 ++ []
theorem dksX5_audits_0 : cX5_audits.data.toList.drop 0 = dktX5_audits_0 := by decide +kernel
theorem dX5_audits_0 : decode cX5_audits 0 = .ok (.aload_n 0, 1) := dk_42 (dk_at dksX5_audits_0 0 rfl rfl)
theorem dX5_audits_1 : decode cX5_audits 1 = .ok (.iconst 0, 1) := dk_3 (dk_at dksX5_audits_0 1 rfl rfl)
theorem dX5_audits_2 : decode cX5_audits 2 = .ok (.putfield 225, 3) := dk_181 0 225 (dk_at dksX5_audits_0 2 rfl rfl)
theorem dX5_audits_5 : decode cX5_audits 5 = .ok (.aload_n 0, 1) := dk_42 (dk_at dksX5_audits_0 5 rfl rfl)
theorem dX5_audits_6 : decode cX5_audits 6 = .ok (.getfield 244, 3) := dk_180 0 244 (dk_at dksX5_audits_0 6 rfl rfl)
theorem dX5_audits_9 : decode cX5_audits 9 = .ok (.ireturn, 1) := dk_172 (dk_at dksX5_audits_0 9 rfl rfl)
abbrev cX5_audit : ByteArray := prog_14_method_16_code
def yX5_audit : MethodName := ⟨RX5, "audit", "(I)I"⟩
def dkwX5_audit_1 : List UInt8 := [180, 0, 213, 27, 46, 104, 42, 180, 0, 216, 27, 46, 96, 167, 0, 4, 3, 172]
abbrev dktX5_audit_1 : List UInt8 := dkwX5_audit_1 ++ []
def dkwX5_audit_0 : List UInt8 := [42, 27, 3, 42, 180, 0, 244, 4, 100, 184, 0, 228, 182, 0, 251, 153, 0, 23, 17, 3, 232, 42]
abbrev dktX5_audit_0 : List UInt8 := dkwX5_audit_0 ++ dktX5_audit_1
theorem dksX5_audit_0 : cX5_audit.data.toList.drop 0 = dktX5_audit_0 := by decide +kernel
theorem dksX5_audit_1 : cX5_audit.data.toList.drop 22 = dktX5_audit_1 := dk_seg dksX5_audit_0 22 rfl rfl
theorem dX5_audit_0 : decode cX5_audit 0 = .ok (.aload_n 0, 1) := dk_42 (dk_at dksX5_audit_0 0 rfl rfl)
theorem dX5_audit_1 : decode cX5_audit 1 = .ok (.iload_n 1, 1) := dk_27 (dk_at dksX5_audit_0 1 rfl rfl)
theorem dX5_audit_2 : decode cX5_audit 2 = .ok (.iconst 0, 1) := dk_3 (dk_at dksX5_audit_0 2 rfl rfl)
theorem dX5_audit_3 : decode cX5_audit 3 = .ok (.aload_n 0, 1) := dk_42 (dk_at dksX5_audit_0 3 rfl rfl)
theorem dX5_audit_4 : decode cX5_audit 4 = .ok (.getfield 244, 3) := dk_180 0 244 (dk_at dksX5_audit_0 4 rfl rfl)
theorem dX5_audit_7 : decode cX5_audit 7 = .ok (.iconst 1, 1) := dk_4 (dk_at dksX5_audit_0 7 rfl rfl)
theorem dX5_audit_8 : decode cX5_audit 8 = .ok (.isub, 1) := dk_100 (dk_at dksX5_audit_0 8 rfl rfl)
theorem dX5_audit_9 : decode cX5_audit 9 = .ok (.invokestatic 228, 3) := dk_184 0 228 (dk_at dksX5_audit_0 9 rfl rfl)
theorem dX5_audit_12 : decode cX5_audit 12 = .ok (.invokevirtual 251, 3) := dk_182 0 251 (dk_at dksX5_audit_0 12 rfl rfl)
theorem dX5_audit_15 : decode cX5_audit 15 = .ok (.ifCond .eq 23, 3) := dk_153 0 23 (dk_at dksX5_audit_0 15 rfl rfl)
theorem dX5_audit_18 : decode cX5_audit 18 = .ok (.sipush 1000, 3) := dk_17 3 232 (dk_at dksX5_audit_0 18 rfl rfl)
theorem dX5_audit_21 : decode cX5_audit 21 = .ok (.aload_n 0, 1) := dk_42 (dk_at dksX5_audit_0 21 rfl rfl)
theorem dX5_audit_22 : decode cX5_audit 22 = .ok (.getfield 213, 3) := dk_180 0 213 (dk_at dksX5_audit_1 0 rfl rfl)
theorem dX5_audit_25 : decode cX5_audit 25 = .ok (.iload_n 1, 1) := dk_27 (dk_at dksX5_audit_1 3 rfl rfl)
theorem dX5_audit_26 : decode cX5_audit 26 = .ok (.iaload, 1) := dk_46 (dk_at dksX5_audit_1 4 rfl rfl)
theorem dX5_audit_27 : decode cX5_audit 27 = .ok (.imul, 1) := dk_104 (dk_at dksX5_audit_1 5 rfl rfl)
theorem dX5_audit_28 : decode cX5_audit 28 = .ok (.aload_n 0, 1) := dk_42 (dk_at dksX5_audit_1 6 rfl rfl)
theorem dX5_audit_29 : decode cX5_audit 29 = .ok (.getfield 216, 3) := dk_180 0 216 (dk_at dksX5_audit_1 7 rfl rfl)
theorem dX5_audit_32 : decode cX5_audit 32 = .ok (.iload_n 1, 1) := dk_27 (dk_at dksX5_audit_1 10 rfl rfl)
theorem dX5_audit_33 : decode cX5_audit 33 = .ok (.iaload, 1) := dk_46 (dk_at dksX5_audit_1 11 rfl rfl)
theorem dX5_audit_34 : decode cX5_audit 34 = .ok (.iadd, 1) := dk_96 (dk_at dksX5_audit_1 12 rfl rfl)
theorem dX5_audit_35 : decode cX5_audit 35 = .ok (.goto 4, 3) := dk_167 0 4 (dk_at dksX5_audit_1 13 rfl rfl)
theorem dX5_audit_38 : decode cX5_audit 38 = .ok (.iconst 0, 1) := dk_3 (dk_at dksX5_audit_1 16 rfl rfl)
theorem dX5_audit_39 : decode cX5_audit 39 = .ok (.ireturn, 1) := dk_172 (dk_at dksX5_audit_1 17 rfl rfl)
abbrev cX5_isIn : ByteArray := prog_14_method_6_code
def yX5_isIn : MethodName := ⟨RX5, "isIn", "(III)Z"⟩
def dkwX5_isIn_0 : List UInt8 := [26, 27, 161, 0, 12, 26, 28, 163, 0, 7, 4, 167, 0, 4, 3, 172]
abbrev dktX5_isIn_0 : List UInt8 := dkwX5_isIn_0 ++ []
theorem dksX5_isIn_0 : cX5_isIn.data.toList.drop 0 = dktX5_isIn_0 := by decide +kernel
theorem dX5_isIn_0 : decode cX5_isIn 0 = .ok (.iload_n 0, 1) := dk_26 (dk_at dksX5_isIn_0 0 rfl rfl)
theorem dX5_isIn_1 : decode cX5_isIn 1 = .ok (.iload_n 1, 1) := dk_27 (dk_at dksX5_isIn_0 1 rfl rfl)
theorem dX5_isIn_2 : decode cX5_isIn 2 = .ok (.if_icmp .lt 12, 3) := dk_161 0 12 (dk_at dksX5_isIn_0 2 rfl rfl)
theorem dX5_isIn_5 : decode cX5_isIn 5 = .ok (.iload_n 0, 1) := dk_26 (dk_at dksX5_isIn_0 5 rfl rfl)
theorem dX5_isIn_6 : decode cX5_isIn 6 = .ok (.iload_n 2, 1) := dk_28 (dk_at dksX5_isIn_0 6 rfl rfl)
theorem dX5_isIn_7 : decode cX5_isIn 7 = .ok (.if_icmp .gt 7, 3) := dk_163 0 7 (dk_at dksX5_isIn_0 7 rfl rfl)
theorem dX5_isIn_10 : decode cX5_isIn 10 = .ok (.iconst 1, 1) := dk_4 (dk_at dksX5_isIn_0 10 rfl rfl)
theorem dX5_isIn_11 : decode cX5_isIn 11 = .ok (.goto 4, 3) := dk_167 0 4 (dk_at dksX5_isIn_0 11 rfl rfl)
theorem dX5_isIn_14 : decode cX5_isIn 14 = .ok (.iconst 0, 1) := dk_3 (dk_at dksX5_isIn_0 14 rfl rfl)
theorem dX5_isIn_15 : decode cX5_isIn 15 = .ok (.ireturn, 1) := dk_172 (dk_at dksX5_isIn_0 15 rfl rfl)
abbrev cX5_may : ByteArray := prog_14_method_3_code
def yX5_may : MethodName := ⟨RX5, "may", "(Z)Z"⟩
def dkwX5_may_0 : List UInt8 := [42, 27, 153, 0, 7, 3, 167, 0, 4, 4, 181, 0, 225, 27, 172]
abbrev dktX5_may_0 : List UInt8 := dkwX5_may_0 ++ []
theorem dksX5_may_0 : cX5_may.data.toList.drop 0 = dktX5_may_0 := by decide +kernel
theorem dX5_may_0 : decode cX5_may 0 = .ok (.aload_n 0, 1) := dk_42 (dk_at dksX5_may_0 0 rfl rfl)
theorem dX5_may_1 : decode cX5_may 1 = .ok (.iload_n 1, 1) := dk_27 (dk_at dksX5_may_0 1 rfl rfl)
theorem dX5_may_2 : decode cX5_may 2 = .ok (.ifCond .eq 7, 3) := dk_153 0 7 (dk_at dksX5_may_0 2 rfl rfl)
theorem dX5_may_5 : decode cX5_may 5 = .ok (.iconst 0, 1) := dk_3 (dk_at dksX5_may_0 5 rfl rfl)
theorem dX5_may_6 : decode cX5_may 6 = .ok (.goto 4, 3) := dk_167 0 4 (dk_at dksX5_may_0 6 rfl rfl)
theorem dX5_may_9 : decode cX5_may 9 = .ok (.iconst 1, 1) := dk_4 (dk_at dksX5_may_0 9 rfl rfl)
theorem dX5_may_10 : decode cX5_may 10 = .ok (.putfield 225, 3) := dk_181 0 225 (dk_at dksX5_may_0 10 rfl rfl)
theorem dX5_may_13 : decode cX5_may 13 = .ok (.iload_n 1, 1) := dk_27 (dk_at dksX5_may_0 13 rfl rfl)
theorem dX5_may_14 : decode cX5_may 14 = .ok (.ireturn, 1) := dk_172 (dk_at dksX5_may_0 14 rfl rfl)
abbrev cX5_sum : ByteArray := prog_14_method_17_code
def yX5_sum : MethodName := ⟨RX5, "sum", "()I"⟩
def dkwX5_sum_0 : List UInt8 := [42, 3, 181, 0, 225, 42, 180, 0, 222, 172]
abbrev dktX5_sum_0 : List UInt8 := dkwX5_sum_0 ++ []
theorem dksX5_sum_0 : cX5_sum.data.toList.drop 0 = dktX5_sum_0 := by decide +kernel
theorem dX5_sum_0 : decode cX5_sum 0 = .ok (.aload_n 0, 1) := dk_42 (dk_at dksX5_sum_0 0 rfl rfl)
theorem dX5_sum_1 : decode cX5_sum 1 = .ok (.iconst 0, 1) := dk_3 (dk_at dksX5_sum_0 1 rfl rfl)
theorem dX5_sum_2 : decode cX5_sum 2 = .ok (.putfield 225, 3) := dk_181 0 225 (dk_at dksX5_sum_0 2 rfl rfl)
theorem dX5_sum_5 : decode cX5_sum 5 = .ok (.aload_n 0, 1) := dk_42 (dk_at dksX5_sum_0 5 rfl rfl)
theorem dX5_sum_6 : decode cX5_sum 6 = .ok (.getfield 222, 3) := dk_180 0 222 (dk_at dksX5_sum_0 6 rfl rfl)
theorem dX5_sum_9 : decode cX5_sum 9 = .ok (.ireturn, 1) := dk_172 (dk_at dksX5_sum_0 9 rfl rfl)
abbrev cX5_sumAnew : ByteArray := prog_14_method_18_code
def yX5_sumAnew : MethodName := ⟨RX5, "sumAnew", "(I)I"⟩
def dkwX5_sumAnew_2 : List UInt8 := [96, 42, 180, 0, 219, 29, 46, 96, 18, 250, 112, 61, 132, 3, 1, 167, 255, 216, 28, 172]
abbrev dktX5_sumAnew_2 : List UInt8 := dkwX5_sumAnew_2 ++ []
def dkwX5_sumAnew_1 : List UInt8 := [27, 162, 0, 41, 16, 31, 28, 104, 16, 100, 42, 180, 0, 213, 29, 46, 104, 96, 42, 180, 0, 216, 29, 46]
abbrev dktX5_sumAnew_1 : List UInt8 := dkwX5_sumAnew_1 ++ dktX5_sumAnew_2
def dkwX5_sumAnew_0 : List UInt8 := [42, 27, 3, 42, 180, 0, 244, 184, 0, 228, 182, 0, 251, 154, 0, 5, 3, 172, 16, 7, 61, 3, 62, 29]
abbrev dktX5_sumAnew_0 : List UInt8 := dkwX5_sumAnew_0 ++ dktX5_sumAnew_1
theorem dksX5_sumAnew_0 : cX5_sumAnew.data.toList.drop 0 = dktX5_sumAnew_0 := by decide +kernel
theorem dksX5_sumAnew_1 : cX5_sumAnew.data.toList.drop 24 = dktX5_sumAnew_1 := dk_seg dksX5_sumAnew_0 24 rfl rfl
theorem dksX5_sumAnew_2 : cX5_sumAnew.data.toList.drop 48 = dktX5_sumAnew_2 := dk_seg dksX5_sumAnew_1 24 rfl rfl
theorem dX5_sumAnew_0 : decode cX5_sumAnew 0 = .ok (.aload_n 0, 1) := dk_42 (dk_at dksX5_sumAnew_0 0 rfl rfl)
theorem dX5_sumAnew_1 : decode cX5_sumAnew 1 = .ok (.iload_n 1, 1) := dk_27 (dk_at dksX5_sumAnew_0 1 rfl rfl)
theorem dX5_sumAnew_2 : decode cX5_sumAnew 2 = .ok (.iconst 0, 1) := dk_3 (dk_at dksX5_sumAnew_0 2 rfl rfl)
theorem dX5_sumAnew_3 : decode cX5_sumAnew 3 = .ok (.aload_n 0, 1) := dk_42 (dk_at dksX5_sumAnew_0 3 rfl rfl)
theorem dX5_sumAnew_4 : decode cX5_sumAnew 4 = .ok (.getfield 244, 3) := dk_180 0 244 (dk_at dksX5_sumAnew_0 4 rfl rfl)
theorem dX5_sumAnew_7 : decode cX5_sumAnew 7 = .ok (.invokestatic 228, 3) := dk_184 0 228 (dk_at dksX5_sumAnew_0 7 rfl rfl)
theorem dX5_sumAnew_10 : decode cX5_sumAnew 10 = .ok (.invokevirtual 251, 3) := dk_182 0 251 (dk_at dksX5_sumAnew_0 10 rfl rfl)
theorem dX5_sumAnew_13 : decode cX5_sumAnew 13 = .ok (.ifCond .ne 5, 3) := dk_154 0 5 (dk_at dksX5_sumAnew_0 13 rfl rfl)
theorem dX5_sumAnew_16 : decode cX5_sumAnew 16 = .ok (.iconst 0, 1) := dk_3 (dk_at dksX5_sumAnew_0 16 rfl rfl)
theorem dX5_sumAnew_17 : decode cX5_sumAnew 17 = .ok (.ireturn, 1) := dk_172 (dk_at dksX5_sumAnew_0 17 rfl rfl)
theorem dX5_sumAnew_18 : decode cX5_sumAnew 18 = .ok (.bipush 7, 2) := dk_16 7 (dk_at dksX5_sumAnew_0 18 rfl rfl)
theorem dX5_sumAnew_20 : decode cX5_sumAnew 20 = .ok (.istore_n 2, 1) := dk_61 (dk_at dksX5_sumAnew_0 20 rfl rfl)
theorem dX5_sumAnew_21 : decode cX5_sumAnew 21 = .ok (.iconst 0, 1) := dk_3 (dk_at dksX5_sumAnew_0 21 rfl rfl)
theorem dX5_sumAnew_22 : decode cX5_sumAnew 22 = .ok (.istore_n 3, 1) := dk_62 (dk_at dksX5_sumAnew_0 22 rfl rfl)
theorem dX5_sumAnew_23 : decode cX5_sumAnew 23 = .ok (.iload_n 3, 1) := dk_29 (dk_at dksX5_sumAnew_0 23 rfl rfl)
theorem dX5_sumAnew_24 : decode cX5_sumAnew 24 = .ok (.iload_n 1, 1) := dk_27 (dk_at dksX5_sumAnew_1 0 rfl rfl)
theorem dX5_sumAnew_25 : decode cX5_sumAnew 25 = .ok (.if_icmp .ge 41, 3) := dk_162 0 41 (dk_at dksX5_sumAnew_1 1 rfl rfl)
theorem dX5_sumAnew_28 : decode cX5_sumAnew 28 = .ok (.bipush 31, 2) := dk_16 31 (dk_at dksX5_sumAnew_1 4 rfl rfl)
theorem dX5_sumAnew_30 : decode cX5_sumAnew 30 = .ok (.iload_n 2, 1) := dk_28 (dk_at dksX5_sumAnew_1 6 rfl rfl)
theorem dX5_sumAnew_31 : decode cX5_sumAnew 31 = .ok (.imul, 1) := dk_104 (dk_at dksX5_sumAnew_1 7 rfl rfl)
theorem dX5_sumAnew_32 : decode cX5_sumAnew 32 = .ok (.bipush 100, 2) := dk_16 100 (dk_at dksX5_sumAnew_1 8 rfl rfl)
theorem dX5_sumAnew_34 : decode cX5_sumAnew 34 = .ok (.aload_n 0, 1) := dk_42 (dk_at dksX5_sumAnew_1 10 rfl rfl)
theorem dX5_sumAnew_35 : decode cX5_sumAnew 35 = .ok (.getfield 213, 3) := dk_180 0 213 (dk_at dksX5_sumAnew_1 11 rfl rfl)
theorem dX5_sumAnew_38 : decode cX5_sumAnew 38 = .ok (.iload_n 3, 1) := dk_29 (dk_at dksX5_sumAnew_1 14 rfl rfl)
theorem dX5_sumAnew_39 : decode cX5_sumAnew 39 = .ok (.iaload, 1) := dk_46 (dk_at dksX5_sumAnew_1 15 rfl rfl)
theorem dX5_sumAnew_40 : decode cX5_sumAnew 40 = .ok (.imul, 1) := dk_104 (dk_at dksX5_sumAnew_1 16 rfl rfl)
theorem dX5_sumAnew_41 : decode cX5_sumAnew 41 = .ok (.iadd, 1) := dk_96 (dk_at dksX5_sumAnew_1 17 rfl rfl)
theorem dX5_sumAnew_42 : decode cX5_sumAnew 42 = .ok (.aload_n 0, 1) := dk_42 (dk_at dksX5_sumAnew_1 18 rfl rfl)
theorem dX5_sumAnew_43 : decode cX5_sumAnew 43 = .ok (.getfield 216, 3) := dk_180 0 216 (dk_at dksX5_sumAnew_1 19 rfl rfl)
theorem dX5_sumAnew_46 : decode cX5_sumAnew 46 = .ok (.iload_n 3, 1) := dk_29 (dk_at dksX5_sumAnew_1 22 rfl rfl)
theorem dX5_sumAnew_47 : decode cX5_sumAnew 47 = .ok (.iaload, 1) := dk_46 (dk_at dksX5_sumAnew_1 23 rfl rfl)
theorem dX5_sumAnew_48 : decode cX5_sumAnew 48 = .ok (.iadd, 1) := dk_96 (dk_at dksX5_sumAnew_2 0 rfl rfl)
theorem dX5_sumAnew_49 : decode cX5_sumAnew 49 = .ok (.aload_n 0, 1) := dk_42 (dk_at dksX5_sumAnew_2 1 rfl rfl)
theorem dX5_sumAnew_50 : decode cX5_sumAnew 50 = .ok (.getfield 219, 3) := dk_180 0 219 (dk_at dksX5_sumAnew_2 2 rfl rfl)
theorem dX5_sumAnew_53 : decode cX5_sumAnew 53 = .ok (.iload_n 3, 1) := dk_29 (dk_at dksX5_sumAnew_2 5 rfl rfl)
theorem dX5_sumAnew_54 : decode cX5_sumAnew 54 = .ok (.iaload, 1) := dk_46 (dk_at dksX5_sumAnew_2 6 rfl rfl)
theorem dX5_sumAnew_55 : decode cX5_sumAnew 55 = .ok (.iadd, 1) := dk_96 (dk_at dksX5_sumAnew_2 7 rfl rfl)
theorem dX5_sumAnew_56 : decode cX5_sumAnew 56 = .ok (.ldc 250, 2) := dk_18 250 (dk_at dksX5_sumAnew_2 8 rfl rfl)
theorem dX5_sumAnew_58 : decode cX5_sumAnew 58 = .ok (.irem, 1) := dk_112 (dk_at dksX5_sumAnew_2 10 rfl rfl)
theorem dX5_sumAnew_59 : decode cX5_sumAnew 59 = .ok (.istore_n 2, 1) := dk_61 (dk_at dksX5_sumAnew_2 11 rfl rfl)
theorem dX5_sumAnew_60 : decode cX5_sumAnew 60 = .ok (.iinc 3 1, 3) := dk_132 3 1 (dk_at dksX5_sumAnew_2 12 rfl rfl)
theorem dX5_sumAnew_63 : decode cX5_sumAnew 63 = .ok (.goto (-40), 3) := dk_167 255 216 (dk_at dksX5_sumAnew_2 15 rfl rfl)
theorem dX5_sumAnew_66 : decode cX5_sumAnew 66 = .ok (.iload_n 2, 1) := dk_28 (dk_at dksX5_sumAnew_2 18 rfl rfl)
theorem dX5_sumAnew_67 : decode cX5_sumAnew 67 = .ok (.ireturn, 1) := dk_172 (dk_at dksX5_sumAnew_2 19 rfl rfl)
abbrev cX5_pass : ByteArray := prog_14_method_24_code
def yX5_pass : MethodName := ⟨RX5, "pass", "(I)I"⟩
def dkwX5_pass_9 : List UInt8 := [172]
abbrev dktX5_pass_9 : List UInt8 := dkwX5_pass_9 ++ []
def dkwX5_pass_8 : List UInt8 := [21, 5, 182, 1, 14, 167, 0, 4, 3, 96, 62, 132, 5, 1, 167, 255, 174, 132, 4, 1, 167, 255, 92, 29]
abbrev dktX5_pass_8 : List UInt8 := dkwX5_pass_8 ++ dktX5_pass_9
def dkwX5_pass_7 : List UInt8 := [21, 5, 46, 100, 17, 1, 224, 164, 0, 7, 4, 167, 0, 4, 3, 54, 6, 29, 21, 6, 153, 0, 12, 42]
abbrev dktX5_pass_7 : List UInt8 := dkwX5_pass_7 ++ dktX5_pass_8
def dkwX5_pass_6 : List UInt8 := [180, 0, 247, 42, 180, 0, 98, 21, 5, 46, 100, 16, 30, 163, 0, 21, 42, 180, 0, 247, 42, 180, 0, 95]
abbrev dktX5_pass_6 : List UInt8 := dkwX5_pass_6 ++ dktX5_pass_7
def dkwX5_pass_5 : List UInt8 := [3, 54, 5, 21, 5, 42, 180, 0, 235, 162, 0, 79, 42, 180, 0, 104, 21, 5, 51, 153, 0, 42, 42]
abbrev dktX5_pass_5 : List UInt8 := dkwX5_pass_5 ++ dktX5_pass_6
def dkwX5_pass_4 : List UInt8 := [96, 79, 42, 42, 180, 0, 174, 181, 1, 25, 42, 2, 181, 0, 174, 42, 8, 42, 180, 1, 25, 182, 0, 255]
abbrev dktX5_pass_4 : List UInt8 := dkwX5_pass_4 ++ dktX5_pass_5
def dkwX5_pass_3 : List UInt8 := [180, 0, 247, 42, 180, 1, 22, 161, 0, 41, 42, 180, 0, 180, 42, 180, 1, 25, 42, 180, 0, 247, 16, 20]
abbrev dktX5_pass_3 : List UInt8 := dkwX5_pass_3 ++ dktX5_pass_4
def dkwX5_pass_2 : List UInt8 := [162, 0, 164, 42, 89, 180, 0, 247, 4, 96, 181, 0, 247, 42, 180, 0, 174, 2, 159, 0, 52, 42]
abbrev dktX5_pass_2 : List UInt8 := dkwX5_pass_2 ++ dktX5_pass_3
def dkwX5_pass_1 : List UInt8 := [163, 0, 7, 4, 167, 0, 4, 3, 182, 1, 18, 154, 0, 5, 3, 172, 3, 62, 3, 54, 4, 21, 4, 27]
abbrev dktX5_pass_1 : List UInt8 := dkwX5_pass_1 ++ dktX5_pass_2
def dkwX5_pass_0 : List UInt8 := [27, 4, 17, 2, 88, 184, 0, 228, 61, 42, 28, 28, 153, 0, 19, 42, 180, 0, 247, 27, 96, 17, 117, 48]
abbrev dktX5_pass_0 : List UInt8 := dkwX5_pass_0 ++ dktX5_pass_1
theorem dksX5_pass_0 : cX5_pass.data.toList.drop 0 = dktX5_pass_0 := by decide +kernel
theorem dksX5_pass_1 : cX5_pass.data.toList.drop 24 = dktX5_pass_1 := dk_seg dksX5_pass_0 24 rfl rfl
theorem dksX5_pass_2 : cX5_pass.data.toList.drop 48 = dktX5_pass_2 := dk_seg dksX5_pass_1 24 rfl rfl
theorem dksX5_pass_3 : cX5_pass.data.toList.drop 70 = dktX5_pass_3 := dk_seg dksX5_pass_2 22 rfl rfl
theorem dksX5_pass_4 : cX5_pass.data.toList.drop 94 = dktX5_pass_4 := dk_seg dksX5_pass_3 24 rfl rfl
theorem dksX5_pass_5 : cX5_pass.data.toList.drop 118 = dktX5_pass_5 := dk_seg dksX5_pass_4 24 rfl rfl
theorem dksX5_pass_6 : cX5_pass.data.toList.drop 141 = dktX5_pass_6 := dk_seg dksX5_pass_5 23 rfl rfl
theorem dksX5_pass_7 : cX5_pass.data.toList.drop 165 = dktX5_pass_7 := dk_seg dksX5_pass_6 24 rfl rfl
theorem dksX5_pass_8 : cX5_pass.data.toList.drop 189 = dktX5_pass_8 := dk_seg dksX5_pass_7 24 rfl rfl
theorem dksX5_pass_9 : cX5_pass.data.toList.drop 213 = dktX5_pass_9 := dk_seg dksX5_pass_8 24 rfl rfl
theorem dX5_pass_0 : decode cX5_pass 0 = .ok (.iload_n 1, 1) := dk_27 (dk_at dksX5_pass_0 0 rfl rfl)
theorem dX5_pass_1 : decode cX5_pass 1 = .ok (.iconst 1, 1) := dk_4 (dk_at dksX5_pass_0 1 rfl rfl)
theorem dX5_pass_2 : decode cX5_pass 2 = .ok (.sipush 600, 3) := dk_17 2 88 (dk_at dksX5_pass_0 2 rfl rfl)
theorem dX5_pass_5 : decode cX5_pass 5 = .ok (.invokestatic 228, 3) := dk_184 0 228 (dk_at dksX5_pass_0 5 rfl rfl)
theorem dX5_pass_8 : decode cX5_pass 8 = .ok (.istore_n 2, 1) := dk_61 (dk_at dksX5_pass_0 8 rfl rfl)
theorem dX5_pass_9 : decode cX5_pass 9 = .ok (.aload_n 0, 1) := dk_42 (dk_at dksX5_pass_0 9 rfl rfl)
theorem dX5_pass_10 : decode cX5_pass 10 = .ok (.iload_n 2, 1) := dk_28 (dk_at dksX5_pass_0 10 rfl rfl)
theorem dX5_pass_11 : decode cX5_pass 11 = .ok (.iload_n 2, 1) := dk_28 (dk_at dksX5_pass_0 11 rfl rfl)
theorem dX5_pass_12 : decode cX5_pass 12 = .ok (.ifCond .eq 19, 3) := dk_153 0 19 (dk_at dksX5_pass_0 12 rfl rfl)
theorem dX5_pass_15 : decode cX5_pass 15 = .ok (.aload_n 0, 1) := dk_42 (dk_at dksX5_pass_0 15 rfl rfl)
theorem dX5_pass_16 : decode cX5_pass 16 = .ok (.getfield 247, 3) := dk_180 0 247 (dk_at dksX5_pass_0 16 rfl rfl)
theorem dX5_pass_19 : decode cX5_pass 19 = .ok (.iload_n 1, 1) := dk_27 (dk_at dksX5_pass_0 19 rfl rfl)
theorem dX5_pass_20 : decode cX5_pass 20 = .ok (.iadd, 1) := dk_96 (dk_at dksX5_pass_0 20 rfl rfl)
theorem dX5_pass_21 : decode cX5_pass 21 = .ok (.sipush 30000, 3) := dk_17 117 48 (dk_at dksX5_pass_0 21 rfl rfl)
theorem dX5_pass_24 : decode cX5_pass 24 = .ok (.if_icmp .gt 7, 3) := dk_163 0 7 (dk_at dksX5_pass_1 0 rfl rfl)
theorem dX5_pass_27 : decode cX5_pass 27 = .ok (.iconst 1, 1) := dk_4 (dk_at dksX5_pass_1 3 rfl rfl)
theorem dX5_pass_28 : decode cX5_pass 28 = .ok (.goto 4, 3) := dk_167 0 4 (dk_at dksX5_pass_1 4 rfl rfl)
theorem dX5_pass_31 : decode cX5_pass 31 = .ok (.iconst 0, 1) := dk_3 (dk_at dksX5_pass_1 7 rfl rfl)
theorem dX5_pass_32 : decode cX5_pass 32 = .ok (.invokevirtual 274, 3) := dk_182 1 18 (dk_at dksX5_pass_1 8 rfl rfl)
theorem dX5_pass_35 : decode cX5_pass 35 = .ok (.ifCond .ne 5, 3) := dk_154 0 5 (dk_at dksX5_pass_1 11 rfl rfl)
theorem dX5_pass_38 : decode cX5_pass 38 = .ok (.iconst 0, 1) := dk_3 (dk_at dksX5_pass_1 14 rfl rfl)
theorem dX5_pass_39 : decode cX5_pass 39 = .ok (.ireturn, 1) := dk_172 (dk_at dksX5_pass_1 15 rfl rfl)
theorem dX5_pass_40 : decode cX5_pass 40 = .ok (.iconst 0, 1) := dk_3 (dk_at dksX5_pass_1 16 rfl rfl)
theorem dX5_pass_41 : decode cX5_pass 41 = .ok (.istore_n 3, 1) := dk_62 (dk_at dksX5_pass_1 17 rfl rfl)
theorem dX5_pass_42 : decode cX5_pass 42 = .ok (.iconst 0, 1) := dk_3 (dk_at dksX5_pass_1 18 rfl rfl)
theorem dX5_pass_43 : decode cX5_pass 43 = .ok (.istore 4, 2) := dk_54 4 (dk_at dksX5_pass_1 19 rfl rfl)
theorem dX5_pass_45 : decode cX5_pass 45 = .ok (.iload 4, 2) := dk_21 4 (dk_at dksX5_pass_1 21 rfl rfl)
theorem dX5_pass_47 : decode cX5_pass 47 = .ok (.iload_n 1, 1) := dk_27 (dk_at dksX5_pass_1 23 rfl rfl)
theorem dX5_pass_48 : decode cX5_pass 48 = .ok (.if_icmp .ge 164, 3) := dk_162 0 164 (dk_at dksX5_pass_2 0 rfl rfl)
theorem dX5_pass_51 : decode cX5_pass 51 = .ok (.aload_n 0, 1) := dk_42 (dk_at dksX5_pass_2 3 rfl rfl)
theorem dX5_pass_52 : decode cX5_pass 52 = .ok (.dup, 1) := dk_89 (dk_at dksX5_pass_2 4 rfl rfl)
theorem dX5_pass_53 : decode cX5_pass 53 = .ok (.getfield 247, 3) := dk_180 0 247 (dk_at dksX5_pass_2 5 rfl rfl)
theorem dX5_pass_56 : decode cX5_pass 56 = .ok (.iconst 1, 1) := dk_4 (dk_at dksX5_pass_2 8 rfl rfl)
theorem dX5_pass_57 : decode cX5_pass 57 = .ok (.iadd, 1) := dk_96 (dk_at dksX5_pass_2 9 rfl rfl)
theorem dX5_pass_58 : decode cX5_pass 58 = .ok (.putfield 247, 3) := dk_181 0 247 (dk_at dksX5_pass_2 10 rfl rfl)
theorem dX5_pass_61 : decode cX5_pass 61 = .ok (.aload_n 0, 1) := dk_42 (dk_at dksX5_pass_2 13 rfl rfl)
theorem dX5_pass_62 : decode cX5_pass 62 = .ok (.getfield 174, 3) := dk_180 0 174 (dk_at dksX5_pass_2 14 rfl rfl)
theorem dX5_pass_65 : decode cX5_pass 65 = .ok (.iconst (-1), 1) := dk_2 (dk_at dksX5_pass_2 17 rfl rfl)
theorem dX5_pass_66 : decode cX5_pass 66 = .ok (.if_icmp .eq 52, 3) := dk_159 0 52 (dk_at dksX5_pass_2 18 rfl rfl)
theorem dX5_pass_69 : decode cX5_pass 69 = .ok (.aload_n 0, 1) := dk_42 (dk_at dksX5_pass_2 21 rfl rfl)
theorem dX5_pass_70 : decode cX5_pass 70 = .ok (.getfield 247, 3) := dk_180 0 247 (dk_at dksX5_pass_3 0 rfl rfl)
theorem dX5_pass_73 : decode cX5_pass 73 = .ok (.aload_n 0, 1) := dk_42 (dk_at dksX5_pass_3 3 rfl rfl)
theorem dX5_pass_74 : decode cX5_pass 74 = .ok (.getfield 278, 3) := dk_180 1 22 (dk_at dksX5_pass_3 4 rfl rfl)
theorem dX5_pass_77 : decode cX5_pass 77 = .ok (.if_icmp .lt 41, 3) := dk_161 0 41 (dk_at dksX5_pass_3 7 rfl rfl)
theorem dX5_pass_80 : decode cX5_pass 80 = .ok (.aload_n 0, 1) := dk_42 (dk_at dksX5_pass_3 10 rfl rfl)
theorem dX5_pass_81 : decode cX5_pass 81 = .ok (.getfield 180, 3) := dk_180 0 180 (dk_at dksX5_pass_3 11 rfl rfl)
theorem dX5_pass_84 : decode cX5_pass 84 = .ok (.aload_n 0, 1) := dk_42 (dk_at dksX5_pass_3 14 rfl rfl)
theorem dX5_pass_85 : decode cX5_pass 85 = .ok (.getfield 281, 3) := dk_180 1 25 (dk_at dksX5_pass_3 15 rfl rfl)
theorem dX5_pass_88 : decode cX5_pass 88 = .ok (.aload_n 0, 1) := dk_42 (dk_at dksX5_pass_3 18 rfl rfl)
theorem dX5_pass_89 : decode cX5_pass 89 = .ok (.getfield 247, 3) := dk_180 0 247 (dk_at dksX5_pass_3 19 rfl rfl)
theorem dX5_pass_92 : decode cX5_pass 92 = .ok (.bipush 20, 2) := dk_16 20 (dk_at dksX5_pass_3 22 rfl rfl)
theorem dX5_pass_94 : decode cX5_pass 94 = .ok (.iadd, 1) := dk_96 (dk_at dksX5_pass_4 0 rfl rfl)
theorem dX5_pass_95 : decode cX5_pass 95 = .ok (.iastore, 1) := dk_79 (dk_at dksX5_pass_4 1 rfl rfl)
theorem dX5_pass_96 : decode cX5_pass 96 = .ok (.aload_n 0, 1) := dk_42 (dk_at dksX5_pass_4 2 rfl rfl)
theorem dX5_pass_97 : decode cX5_pass 97 = .ok (.aload_n 0, 1) := dk_42 (dk_at dksX5_pass_4 3 rfl rfl)
theorem dX5_pass_98 : decode cX5_pass 98 = .ok (.getfield 174, 3) := dk_180 0 174 (dk_at dksX5_pass_4 4 rfl rfl)
theorem dX5_pass_101 : decode cX5_pass 101 = .ok (.putfield 281, 3) := dk_181 1 25 (dk_at dksX5_pass_4 7 rfl rfl)
theorem dX5_pass_104 : decode cX5_pass 104 = .ok (.aload_n 0, 1) := dk_42 (dk_at dksX5_pass_4 10 rfl rfl)
theorem dX5_pass_105 : decode cX5_pass 105 = .ok (.iconst (-1), 1) := dk_2 (dk_at dksX5_pass_4 11 rfl rfl)
theorem dX5_pass_106 : decode cX5_pass 106 = .ok (.putfield 174, 3) := dk_181 0 174 (dk_at dksX5_pass_4 12 rfl rfl)
theorem dX5_pass_109 : decode cX5_pass 109 = .ok (.aload_n 0, 1) := dk_42 (dk_at dksX5_pass_4 15 rfl rfl)
theorem dX5_pass_110 : decode cX5_pass 110 = .ok (.iconst 5, 1) := dk_8 (dk_at dksX5_pass_4 16 rfl rfl)
theorem dX5_pass_111 : decode cX5_pass 111 = .ok (.aload_n 0, 1) := dk_42 (dk_at dksX5_pass_4 17 rfl rfl)
theorem dX5_pass_112 : decode cX5_pass 112 = .ok (.getfield 281, 3) := dk_180 1 25 (dk_at dksX5_pass_4 18 rfl rfl)
theorem dX5_pass_115 : decode cX5_pass 115 = .ok (.invokevirtual 255, 3) := dk_182 0 255 (dk_at dksX5_pass_4 21 rfl rfl)
theorem dX5_pass_118 : decode cX5_pass 118 = .ok (.iconst 0, 1) := dk_3 (dk_at dksX5_pass_5 0 rfl rfl)
theorem dX5_pass_119 : decode cX5_pass 119 = .ok (.istore 5, 2) := dk_54 5 (dk_at dksX5_pass_5 1 rfl rfl)
theorem dX5_pass_121 : decode cX5_pass 121 = .ok (.iload 5, 2) := dk_21 5 (dk_at dksX5_pass_5 3 rfl rfl)
theorem dX5_pass_123 : decode cX5_pass 123 = .ok (.aload_n 0, 1) := dk_42 (dk_at dksX5_pass_5 5 rfl rfl)
theorem dX5_pass_124 : decode cX5_pass 124 = .ok (.getfield 235, 3) := dk_180 0 235 (dk_at dksX5_pass_5 6 rfl rfl)
theorem dX5_pass_127 : decode cX5_pass 127 = .ok (.if_icmp .ge 79, 3) := dk_162 0 79 (dk_at dksX5_pass_5 9 rfl rfl)
theorem dX5_pass_130 : decode cX5_pass 130 = .ok (.aload_n 0, 1) := dk_42 (dk_at dksX5_pass_5 12 rfl rfl)
theorem dX5_pass_131 : decode cX5_pass 131 = .ok (.getfield 104, 3) := dk_180 0 104 (dk_at dksX5_pass_5 13 rfl rfl)
theorem dX5_pass_134 : decode cX5_pass 134 = .ok (.iload 5, 2) := dk_21 5 (dk_at dksX5_pass_5 16 rfl rfl)
theorem dX5_pass_136 : decode cX5_pass 136 = .ok (.baload, 1) := dk_51 (dk_at dksX5_pass_5 18 rfl rfl)
theorem dX5_pass_137 : decode cX5_pass 137 = .ok (.ifCond .eq 42, 3) := dk_153 0 42 (dk_at dksX5_pass_5 19 rfl rfl)
theorem dX5_pass_140 : decode cX5_pass 140 = .ok (.aload_n 0, 1) := dk_42 (dk_at dksX5_pass_5 22 rfl rfl)
theorem dX5_pass_141 : decode cX5_pass 141 = .ok (.getfield 247, 3) := dk_180 0 247 (dk_at dksX5_pass_6 0 rfl rfl)
theorem dX5_pass_144 : decode cX5_pass 144 = .ok (.aload_n 0, 1) := dk_42 (dk_at dksX5_pass_6 3 rfl rfl)
theorem dX5_pass_145 : decode cX5_pass 145 = .ok (.getfield 98, 3) := dk_180 0 98 (dk_at dksX5_pass_6 4 rfl rfl)
theorem dX5_pass_148 : decode cX5_pass 148 = .ok (.iload 5, 2) := dk_21 5 (dk_at dksX5_pass_6 7 rfl rfl)
theorem dX5_pass_150 : decode cX5_pass 150 = .ok (.iaload, 1) := dk_46 (dk_at dksX5_pass_6 9 rfl rfl)
theorem dX5_pass_151 : decode cX5_pass 151 = .ok (.isub, 1) := dk_100 (dk_at dksX5_pass_6 10 rfl rfl)
theorem dX5_pass_152 : decode cX5_pass 152 = .ok (.bipush 30, 2) := dk_16 30 (dk_at dksX5_pass_6 11 rfl rfl)
theorem dX5_pass_154 : decode cX5_pass 154 = .ok (.if_icmp .gt 21, 3) := dk_163 0 21 (dk_at dksX5_pass_6 13 rfl rfl)
theorem dX5_pass_157 : decode cX5_pass 157 = .ok (.aload_n 0, 1) := dk_42 (dk_at dksX5_pass_6 16 rfl rfl)
theorem dX5_pass_158 : decode cX5_pass 158 = .ok (.getfield 247, 3) := dk_180 0 247 (dk_at dksX5_pass_6 17 rfl rfl)
theorem dX5_pass_161 : decode cX5_pass 161 = .ok (.aload_n 0, 1) := dk_42 (dk_at dksX5_pass_6 20 rfl rfl)
theorem dX5_pass_162 : decode cX5_pass 162 = .ok (.getfield 95, 3) := dk_180 0 95 (dk_at dksX5_pass_6 21 rfl rfl)
theorem dX5_pass_165 : decode cX5_pass 165 = .ok (.iload 5, 2) := dk_21 5 (dk_at dksX5_pass_7 0 rfl rfl)
theorem dX5_pass_167 : decode cX5_pass 167 = .ok (.iaload, 1) := dk_46 (dk_at dksX5_pass_7 2 rfl rfl)
theorem dX5_pass_168 : decode cX5_pass 168 = .ok (.isub, 1) := dk_100 (dk_at dksX5_pass_7 3 rfl rfl)
theorem dX5_pass_169 : decode cX5_pass 169 = .ok (.sipush 480, 3) := dk_17 1 224 (dk_at dksX5_pass_7 4 rfl rfl)
theorem dX5_pass_172 : decode cX5_pass 172 = .ok (.if_icmp .le 7, 3) := dk_164 0 7 (dk_at dksX5_pass_7 7 rfl rfl)
theorem dX5_pass_175 : decode cX5_pass 175 = .ok (.iconst 1, 1) := dk_4 (dk_at dksX5_pass_7 10 rfl rfl)
theorem dX5_pass_176 : decode cX5_pass 176 = .ok (.goto 4, 3) := dk_167 0 4 (dk_at dksX5_pass_7 11 rfl rfl)
theorem dX5_pass_179 : decode cX5_pass 179 = .ok (.iconst 0, 1) := dk_3 (dk_at dksX5_pass_7 14 rfl rfl)
theorem dX5_pass_180 : decode cX5_pass 180 = .ok (.istore 6, 2) := dk_54 6 (dk_at dksX5_pass_7 15 rfl rfl)
theorem dX5_pass_182 : decode cX5_pass 182 = .ok (.iload_n 3, 1) := dk_29 (dk_at dksX5_pass_7 17 rfl rfl)
theorem dX5_pass_183 : decode cX5_pass 183 = .ok (.iload 6, 2) := dk_21 6 (dk_at dksX5_pass_7 18 rfl rfl)
theorem dX5_pass_185 : decode cX5_pass 185 = .ok (.ifCond .eq 12, 3) := dk_153 0 12 (dk_at dksX5_pass_7 20 rfl rfl)
theorem dX5_pass_188 : decode cX5_pass 188 = .ok (.aload_n 0, 1) := dk_42 (dk_at dksX5_pass_7 23 rfl rfl)
theorem dX5_pass_189 : decode cX5_pass 189 = .ok (.iload 5, 2) := dk_21 5 (dk_at dksX5_pass_8 0 rfl rfl)
theorem dX5_pass_191 : decode cX5_pass 191 = .ok (.invokevirtual 270, 3) := dk_182 1 14 (dk_at dksX5_pass_8 2 rfl rfl)
theorem dX5_pass_194 : decode cX5_pass 194 = .ok (.goto 4, 3) := dk_167 0 4 (dk_at dksX5_pass_8 5 rfl rfl)
theorem dX5_pass_197 : decode cX5_pass 197 = .ok (.iconst 0, 1) := dk_3 (dk_at dksX5_pass_8 8 rfl rfl)
theorem dX5_pass_198 : decode cX5_pass 198 = .ok (.iadd, 1) := dk_96 (dk_at dksX5_pass_8 9 rfl rfl)
theorem dX5_pass_199 : decode cX5_pass 199 = .ok (.istore_n 3, 1) := dk_62 (dk_at dksX5_pass_8 10 rfl rfl)
theorem dX5_pass_200 : decode cX5_pass 200 = .ok (.iinc 5 1, 3) := dk_132 5 1 (dk_at dksX5_pass_8 11 rfl rfl)
theorem dX5_pass_203 : decode cX5_pass 203 = .ok (.goto (-82), 3) := dk_167 255 174 (dk_at dksX5_pass_8 14 rfl rfl)
theorem dX5_pass_206 : decode cX5_pass 206 = .ok (.iinc 4 1, 3) := dk_132 4 1 (dk_at dksX5_pass_8 17 rfl rfl)
theorem dX5_pass_209 : decode cX5_pass 209 = .ok (.goto (-164), 3) := dk_167 255 92 (dk_at dksX5_pass_8 20 rfl rfl)
theorem dX5_pass_212 : decode cX5_pass 212 = .ok (.iload_n 3, 1) := dk_29 (dk_at dksX5_pass_8 23 rfl rfl)
theorem dX5_pass_213 : decode cX5_pass 213 = .ok (.ireturn, 1) := dk_172 (dk_at dksX5_pass_9 0 rfl rfl)
abbrev cX5_mayBoth : ByteArray := prog_14_method_4_code
def yX5_mayBoth : MethodName := ⟨RX5, "mayBoth", "(ZZ)Z"⟩
def dkwX5_mayBoth_1 : List UInt8 := [180, 0, 225, 154, 0, 7, 4, 167, 0, 4, 3, 172]
abbrev dktX5_mayBoth_1 : List UInt8 := dkwX5_mayBoth_1 ++ []
def dkwX5_mayBoth_0 : List UInt8 := [42, 27, 154, 0, 7, 4, 167, 0, 12, 28, 154, 0, 7, 5, 167, 0, 4, 3, 181, 0, 225, 42]
abbrev dktX5_mayBoth_0 : List UInt8 := dkwX5_mayBoth_0 ++ dktX5_mayBoth_1
theorem dksX5_mayBoth_0 : cX5_mayBoth.data.toList.drop 0 = dktX5_mayBoth_0 := by decide +kernel
theorem dksX5_mayBoth_1 : cX5_mayBoth.data.toList.drop 22 = dktX5_mayBoth_1 := dk_seg dksX5_mayBoth_0 22 rfl rfl
theorem dX5_mayBoth_0 : decode cX5_mayBoth 0 = .ok (.aload_n 0, 1) := dk_42 (dk_at dksX5_mayBoth_0 0 rfl rfl)
theorem dX5_mayBoth_1 : decode cX5_mayBoth 1 = .ok (.iload_n 1, 1) := dk_27 (dk_at dksX5_mayBoth_0 1 rfl rfl)
theorem dX5_mayBoth_2 : decode cX5_mayBoth 2 = .ok (.ifCond .ne 7, 3) := dk_154 0 7 (dk_at dksX5_mayBoth_0 2 rfl rfl)
theorem dX5_mayBoth_5 : decode cX5_mayBoth 5 = .ok (.iconst 1, 1) := dk_4 (dk_at dksX5_mayBoth_0 5 rfl rfl)
theorem dX5_mayBoth_6 : decode cX5_mayBoth 6 = .ok (.goto 12, 3) := dk_167 0 12 (dk_at dksX5_mayBoth_0 6 rfl rfl)
theorem dX5_mayBoth_9 : decode cX5_mayBoth 9 = .ok (.iload_n 2, 1) := dk_28 (dk_at dksX5_mayBoth_0 9 rfl rfl)
theorem dX5_mayBoth_10 : decode cX5_mayBoth 10 = .ok (.ifCond .ne 7, 3) := dk_154 0 7 (dk_at dksX5_mayBoth_0 10 rfl rfl)
theorem dX5_mayBoth_13 : decode cX5_mayBoth 13 = .ok (.iconst 2, 1) := dk_5 (dk_at dksX5_mayBoth_0 13 rfl rfl)
theorem dX5_mayBoth_14 : decode cX5_mayBoth 14 = .ok (.goto 4, 3) := dk_167 0 4 (dk_at dksX5_mayBoth_0 14 rfl rfl)
theorem dX5_mayBoth_17 : decode cX5_mayBoth 17 = .ok (.iconst 0, 1) := dk_3 (dk_at dksX5_mayBoth_0 17 rfl rfl)
theorem dX5_mayBoth_18 : decode cX5_mayBoth 18 = .ok (.putfield 225, 3) := dk_181 0 225 (dk_at dksX5_mayBoth_0 18 rfl rfl)
theorem dX5_mayBoth_21 : decode cX5_mayBoth 21 = .ok (.aload_n 0, 1) := dk_42 (dk_at dksX5_mayBoth_0 21 rfl rfl)
theorem dX5_mayBoth_22 : decode cX5_mayBoth 22 = .ok (.getfield 225, 3) := dk_180 0 225 (dk_at dksX5_mayBoth_1 0 rfl rfl)
theorem dX5_mayBoth_25 : decode cX5_mayBoth 25 = .ok (.ifCond .ne 7, 3) := dk_154 0 7 (dk_at dksX5_mayBoth_1 3 rfl rfl)
theorem dX5_mayBoth_28 : decode cX5_mayBoth 28 = .ok (.iconst 1, 1) := dk_4 (dk_at dksX5_mayBoth_1 6 rfl rfl)
theorem dX5_mayBoth_29 : decode cX5_mayBoth 29 = .ok (.goto 4, 3) := dk_167 0 4 (dk_at dksX5_mayBoth_1 7 rfl rfl)
theorem dX5_mayBoth_32 : decode cX5_mayBoth 32 = .ok (.iconst 0, 1) := dk_3 (dk_at dksX5_mayBoth_1 10 rfl rfl)
theorem dX5_mayBoth_33 : decode cX5_mayBoth 33 = .ok (.ireturn, 1) := dk_172 (dk_at dksX5_mayBoth_1 11 rfl rfl)
abbrev cX5_write : ByteArray := prog_14_method_14_code
def yX5_write : MethodName := ⟨RX5, "write", "(II)V"⟩
def dkwX5_write_2 : List UInt8 := [180, 0, 222, 104, 16, 100, 27, 104, 96, 28, 96, 42, 180, 0, 247, 96, 18, 250, 112, 181, 0, 222, 177]
abbrev dktX5_write_2 : List UInt8 := dkwX5_write_2 ++ []
def dkwX5_write_1 : List UInt8 := [42, 180, 0, 244, 42, 180, 0, 247, 79, 42, 89, 180, 0, 244, 4, 96, 181, 0, 244, 42, 16, 31, 42]
abbrev dktX5_write_1 : List UInt8 := dkwX5_write_1 ++ dktX5_write_2
def dkwX5_write_0 : List UInt8 := [42, 180, 0, 213, 42, 180, 0, 244, 27, 79, 42, 180, 0, 216, 42, 180, 0, 244, 28, 79, 42, 180, 0, 219]
abbrev dktX5_write_0 : List UInt8 := dkwX5_write_0 ++ dktX5_write_1
theorem dksX5_write_0 : cX5_write.data.toList.drop 0 = dktX5_write_0 := by decide +kernel
theorem dksX5_write_1 : cX5_write.data.toList.drop 24 = dktX5_write_1 := dk_seg dksX5_write_0 24 rfl rfl
theorem dksX5_write_2 : cX5_write.data.toList.drop 47 = dktX5_write_2 := dk_seg dksX5_write_1 23 rfl rfl
theorem dX5_write_0 : decode cX5_write 0 = .ok (.aload_n 0, 1) := dk_42 (dk_at dksX5_write_0 0 rfl rfl)
theorem dX5_write_1 : decode cX5_write 1 = .ok (.getfield 213, 3) := dk_180 0 213 (dk_at dksX5_write_0 1 rfl rfl)
theorem dX5_write_4 : decode cX5_write 4 = .ok (.aload_n 0, 1) := dk_42 (dk_at dksX5_write_0 4 rfl rfl)
theorem dX5_write_5 : decode cX5_write 5 = .ok (.getfield 244, 3) := dk_180 0 244 (dk_at dksX5_write_0 5 rfl rfl)
theorem dX5_write_8 : decode cX5_write 8 = .ok (.iload_n 1, 1) := dk_27 (dk_at dksX5_write_0 8 rfl rfl)
theorem dX5_write_9 : decode cX5_write 9 = .ok (.iastore, 1) := dk_79 (dk_at dksX5_write_0 9 rfl rfl)
theorem dX5_write_10 : decode cX5_write 10 = .ok (.aload_n 0, 1) := dk_42 (dk_at dksX5_write_0 10 rfl rfl)
theorem dX5_write_11 : decode cX5_write 11 = .ok (.getfield 216, 3) := dk_180 0 216 (dk_at dksX5_write_0 11 rfl rfl)
theorem dX5_write_14 : decode cX5_write 14 = .ok (.aload_n 0, 1) := dk_42 (dk_at dksX5_write_0 14 rfl rfl)
theorem dX5_write_15 : decode cX5_write 15 = .ok (.getfield 244, 3) := dk_180 0 244 (dk_at dksX5_write_0 15 rfl rfl)
theorem dX5_write_18 : decode cX5_write 18 = .ok (.iload_n 2, 1) := dk_28 (dk_at dksX5_write_0 18 rfl rfl)
theorem dX5_write_19 : decode cX5_write 19 = .ok (.iastore, 1) := dk_79 (dk_at dksX5_write_0 19 rfl rfl)
theorem dX5_write_20 : decode cX5_write 20 = .ok (.aload_n 0, 1) := dk_42 (dk_at dksX5_write_0 20 rfl rfl)
theorem dX5_write_21 : decode cX5_write 21 = .ok (.getfield 219, 3) := dk_180 0 219 (dk_at dksX5_write_0 21 rfl rfl)
theorem dX5_write_24 : decode cX5_write 24 = .ok (.aload_n 0, 1) := dk_42 (dk_at dksX5_write_1 0 rfl rfl)
theorem dX5_write_25 : decode cX5_write 25 = .ok (.getfield 244, 3) := dk_180 0 244 (dk_at dksX5_write_1 1 rfl rfl)
theorem dX5_write_28 : decode cX5_write 28 = .ok (.aload_n 0, 1) := dk_42 (dk_at dksX5_write_1 4 rfl rfl)
theorem dX5_write_29 : decode cX5_write 29 = .ok (.getfield 247, 3) := dk_180 0 247 (dk_at dksX5_write_1 5 rfl rfl)
theorem dX5_write_32 : decode cX5_write 32 = .ok (.iastore, 1) := dk_79 (dk_at dksX5_write_1 8 rfl rfl)
theorem dX5_write_33 : decode cX5_write 33 = .ok (.aload_n 0, 1) := dk_42 (dk_at dksX5_write_1 9 rfl rfl)
theorem dX5_write_34 : decode cX5_write 34 = .ok (.dup, 1) := dk_89 (dk_at dksX5_write_1 10 rfl rfl)
theorem dX5_write_35 : decode cX5_write 35 = .ok (.getfield 244, 3) := dk_180 0 244 (dk_at dksX5_write_1 11 rfl rfl)
theorem dX5_write_38 : decode cX5_write 38 = .ok (.iconst 1, 1) := dk_4 (dk_at dksX5_write_1 14 rfl rfl)
theorem dX5_write_39 : decode cX5_write 39 = .ok (.iadd, 1) := dk_96 (dk_at dksX5_write_1 15 rfl rfl)
theorem dX5_write_40 : decode cX5_write 40 = .ok (.putfield 244, 3) := dk_181 0 244 (dk_at dksX5_write_1 16 rfl rfl)
theorem dX5_write_43 : decode cX5_write 43 = .ok (.aload_n 0, 1) := dk_42 (dk_at dksX5_write_1 19 rfl rfl)
theorem dX5_write_44 : decode cX5_write 44 = .ok (.bipush 31, 2) := dk_16 31 (dk_at dksX5_write_1 20 rfl rfl)
theorem dX5_write_46 : decode cX5_write 46 = .ok (.aload_n 0, 1) := dk_42 (dk_at dksX5_write_1 22 rfl rfl)
theorem dX5_write_47 : decode cX5_write 47 = .ok (.getfield 222, 3) := dk_180 0 222 (dk_at dksX5_write_2 0 rfl rfl)
theorem dX5_write_50 : decode cX5_write 50 = .ok (.imul, 1) := dk_104 (dk_at dksX5_write_2 3 rfl rfl)
theorem dX5_write_51 : decode cX5_write 51 = .ok (.bipush 100, 2) := dk_16 100 (dk_at dksX5_write_2 4 rfl rfl)
theorem dX5_write_53 : decode cX5_write 53 = .ok (.iload_n 1, 1) := dk_27 (dk_at dksX5_write_2 6 rfl rfl)
theorem dX5_write_54 : decode cX5_write 54 = .ok (.imul, 1) := dk_104 (dk_at dksX5_write_2 7 rfl rfl)
theorem dX5_write_55 : decode cX5_write 55 = .ok (.iadd, 1) := dk_96 (dk_at dksX5_write_2 8 rfl rfl)
theorem dX5_write_56 : decode cX5_write 56 = .ok (.iload_n 2, 1) := dk_28 (dk_at dksX5_write_2 9 rfl rfl)
theorem dX5_write_57 : decode cX5_write 57 = .ok (.iadd, 1) := dk_96 (dk_at dksX5_write_2 10 rfl rfl)
theorem dX5_write_58 : decode cX5_write 58 = .ok (.aload_n 0, 1) := dk_42 (dk_at dksX5_write_2 11 rfl rfl)
theorem dX5_write_59 : decode cX5_write 59 = .ok (.getfield 247, 3) := dk_180 0 247 (dk_at dksX5_write_2 12 rfl rfl)
theorem dX5_write_62 : decode cX5_write 62 = .ok (.iadd, 1) := dk_96 (dk_at dksX5_write_2 15 rfl rfl)
theorem dX5_write_63 : decode cX5_write 63 = .ok (.ldc 250, 2) := dk_18 250 (dk_at dksX5_write_2 16 rfl rfl)
theorem dX5_write_65 : decode cX5_write 65 = .ok (.irem, 1) := dk_112 (dk_at dksX5_write_2 18 rfl rfl)
theorem dX5_write_66 : decode cX5_write 66 = .ok (.putfield 222, 3) := dk_181 0 222 (dk_at dksX5_write_2 19 rfl rfl)
theorem dX5_write_69 : decode cX5_write 69 = .ok (.return_, 1) := dk_177 (dk_at dksX5_write_2 22 rfl rfl)
abbrev cX5_endSession : ByteArray := prog_14_method_22_code
def yX5_endSession : MethodName := ⟨RX5, "endSession", "(I)I"⟩
def dkwX5_endSession_3 : List UInt8 := [167, 255, 205, 42, 27, 182, 1, 11, 28, 172]
abbrev dktX5_endSession_3 : List UInt8 := dkwX5_endSession_3 ++ []
def dkwX5_endSession_2 : List UInt8 := [180, 0, 104, 29, 3, 84, 42, 4, 29, 182, 0, 255, 42, 29, 182, 1, 11, 132, 2, 1, 132, 3, 1]
abbrev dktX5_endSession_2 : List UInt8 := dkwX5_endSession_2 ++ dktX5_endSession_3
def dkwX5_endSession_1 : List UInt8 := [162, 0, 49, 42, 180, 0, 104, 29, 51, 153, 0, 34, 42, 180, 0, 101, 29, 46, 27, 160, 0, 24, 42]
abbrev dktX5_endSession_1 : List UInt8 := dkwX5_endSession_1 ++ dktX5_endSession_2
def dkwX5_endSession_0 : List UInt8 := [42, 180, 0, 104, 27, 3, 84, 42, 4, 27, 182, 0, 255, 4, 61, 3, 62, 29, 42, 180, 0, 235]
abbrev dktX5_endSession_0 : List UInt8 := dkwX5_endSession_0 ++ dktX5_endSession_1
theorem dksX5_endSession_0 : cX5_endSession.data.toList.drop 0 = dktX5_endSession_0 := by decide +kernel
theorem dksX5_endSession_1 : cX5_endSession.data.toList.drop 22 = dktX5_endSession_1 := dk_seg dksX5_endSession_0 22 rfl rfl
theorem dksX5_endSession_2 : cX5_endSession.data.toList.drop 45 = dktX5_endSession_2 := dk_seg dksX5_endSession_1 23 rfl rfl
theorem dksX5_endSession_3 : cX5_endSession.data.toList.drop 68 = dktX5_endSession_3 := dk_seg dksX5_endSession_2 23 rfl rfl
theorem dX5_endSession_0 : decode cX5_endSession 0 = .ok (.aload_n 0, 1) := dk_42 (dk_at dksX5_endSession_0 0 rfl rfl)
theorem dX5_endSession_1 : decode cX5_endSession 1 = .ok (.getfield 104, 3) := dk_180 0 104 (dk_at dksX5_endSession_0 1 rfl rfl)
theorem dX5_endSession_4 : decode cX5_endSession 4 = .ok (.iload_n 1, 1) := dk_27 (dk_at dksX5_endSession_0 4 rfl rfl)
theorem dX5_endSession_5 : decode cX5_endSession 5 = .ok (.iconst 0, 1) := dk_3 (dk_at dksX5_endSession_0 5 rfl rfl)
theorem dX5_endSession_6 : decode cX5_endSession 6 = .ok (.bastore, 1) := dk_84 (dk_at dksX5_endSession_0 6 rfl rfl)
theorem dX5_endSession_7 : decode cX5_endSession 7 = .ok (.aload_n 0, 1) := dk_42 (dk_at dksX5_endSession_0 7 rfl rfl)
theorem dX5_endSession_8 : decode cX5_endSession 8 = .ok (.iconst 1, 1) := dk_4 (dk_at dksX5_endSession_0 8 rfl rfl)
theorem dX5_endSession_9 : decode cX5_endSession 9 = .ok (.iload_n 1, 1) := dk_27 (dk_at dksX5_endSession_0 9 rfl rfl)
theorem dX5_endSession_10 : decode cX5_endSession 10 = .ok (.invokevirtual 255, 3) := dk_182 0 255 (dk_at dksX5_endSession_0 10 rfl rfl)
theorem dX5_endSession_13 : decode cX5_endSession 13 = .ok (.iconst 1, 1) := dk_4 (dk_at dksX5_endSession_0 13 rfl rfl)
theorem dX5_endSession_14 : decode cX5_endSession 14 = .ok (.istore_n 2, 1) := dk_61 (dk_at dksX5_endSession_0 14 rfl rfl)
theorem dX5_endSession_15 : decode cX5_endSession 15 = .ok (.iconst 0, 1) := dk_3 (dk_at dksX5_endSession_0 15 rfl rfl)
theorem dX5_endSession_16 : decode cX5_endSession 16 = .ok (.istore_n 3, 1) := dk_62 (dk_at dksX5_endSession_0 16 rfl rfl)
theorem dX5_endSession_17 : decode cX5_endSession 17 = .ok (.iload_n 3, 1) := dk_29 (dk_at dksX5_endSession_0 17 rfl rfl)
theorem dX5_endSession_18 : decode cX5_endSession 18 = .ok (.aload_n 0, 1) := dk_42 (dk_at dksX5_endSession_0 18 rfl rfl)
theorem dX5_endSession_19 : decode cX5_endSession 19 = .ok (.getfield 235, 3) := dk_180 0 235 (dk_at dksX5_endSession_0 19 rfl rfl)
theorem dX5_endSession_22 : decode cX5_endSession 22 = .ok (.if_icmp .ge 49, 3) := dk_162 0 49 (dk_at dksX5_endSession_1 0 rfl rfl)
theorem dX5_endSession_25 : decode cX5_endSession 25 = .ok (.aload_n 0, 1) := dk_42 (dk_at dksX5_endSession_1 3 rfl rfl)
theorem dX5_endSession_26 : decode cX5_endSession 26 = .ok (.getfield 104, 3) := dk_180 0 104 (dk_at dksX5_endSession_1 4 rfl rfl)
theorem dX5_endSession_29 : decode cX5_endSession 29 = .ok (.iload_n 3, 1) := dk_29 (dk_at dksX5_endSession_1 7 rfl rfl)
theorem dX5_endSession_30 : decode cX5_endSession 30 = .ok (.baload, 1) := dk_51 (dk_at dksX5_endSession_1 8 rfl rfl)
theorem dX5_endSession_31 : decode cX5_endSession 31 = .ok (.ifCond .eq 34, 3) := dk_153 0 34 (dk_at dksX5_endSession_1 9 rfl rfl)
theorem dX5_endSession_34 : decode cX5_endSession 34 = .ok (.aload_n 0, 1) := dk_42 (dk_at dksX5_endSession_1 12 rfl rfl)
theorem dX5_endSession_35 : decode cX5_endSession 35 = .ok (.getfield 101, 3) := dk_180 0 101 (dk_at dksX5_endSession_1 13 rfl rfl)
theorem dX5_endSession_38 : decode cX5_endSession 38 = .ok (.iload_n 3, 1) := dk_29 (dk_at dksX5_endSession_1 16 rfl rfl)
theorem dX5_endSession_39 : decode cX5_endSession 39 = .ok (.iaload, 1) := dk_46 (dk_at dksX5_endSession_1 17 rfl rfl)
theorem dX5_endSession_40 : decode cX5_endSession 40 = .ok (.iload_n 1, 1) := dk_27 (dk_at dksX5_endSession_1 18 rfl rfl)
theorem dX5_endSession_41 : decode cX5_endSession 41 = .ok (.if_icmp .ne 24, 3) := dk_160 0 24 (dk_at dksX5_endSession_1 19 rfl rfl)
theorem dX5_endSession_44 : decode cX5_endSession 44 = .ok (.aload_n 0, 1) := dk_42 (dk_at dksX5_endSession_1 22 rfl rfl)
theorem dX5_endSession_45 : decode cX5_endSession 45 = .ok (.getfield 104, 3) := dk_180 0 104 (dk_at dksX5_endSession_2 0 rfl rfl)
theorem dX5_endSession_48 : decode cX5_endSession 48 = .ok (.iload_n 3, 1) := dk_29 (dk_at dksX5_endSession_2 3 rfl rfl)
theorem dX5_endSession_49 : decode cX5_endSession 49 = .ok (.iconst 0, 1) := dk_3 (dk_at dksX5_endSession_2 4 rfl rfl)
theorem dX5_endSession_50 : decode cX5_endSession 50 = .ok (.bastore, 1) := dk_84 (dk_at dksX5_endSession_2 5 rfl rfl)
theorem dX5_endSession_51 : decode cX5_endSession 51 = .ok (.aload_n 0, 1) := dk_42 (dk_at dksX5_endSession_2 6 rfl rfl)
theorem dX5_endSession_52 : decode cX5_endSession 52 = .ok (.iconst 1, 1) := dk_4 (dk_at dksX5_endSession_2 7 rfl rfl)
theorem dX5_endSession_53 : decode cX5_endSession 53 = .ok (.iload_n 3, 1) := dk_29 (dk_at dksX5_endSession_2 8 rfl rfl)
theorem dX5_endSession_54 : decode cX5_endSession 54 = .ok (.invokevirtual 255, 3) := dk_182 0 255 (dk_at dksX5_endSession_2 9 rfl rfl)
theorem dX5_endSession_57 : decode cX5_endSession 57 = .ok (.aload_n 0, 1) := dk_42 (dk_at dksX5_endSession_2 12 rfl rfl)
theorem dX5_endSession_58 : decode cX5_endSession 58 = .ok (.iload_n 3, 1) := dk_29 (dk_at dksX5_endSession_2 13 rfl rfl)
theorem dX5_endSession_59 : decode cX5_endSession 59 = .ok (.invokevirtual 267, 3) := dk_182 1 11 (dk_at dksX5_endSession_2 14 rfl rfl)
theorem dX5_endSession_62 : decode cX5_endSession 62 = .ok (.iinc 2 1, 3) := dk_132 2 1 (dk_at dksX5_endSession_2 17 rfl rfl)
theorem dX5_endSession_65 : decode cX5_endSession 65 = .ok (.iinc 3 1, 3) := dk_132 3 1 (dk_at dksX5_endSession_2 20 rfl rfl)
theorem dX5_endSession_68 : decode cX5_endSession 68 = .ok (.goto (-51), 3) := dk_167 255 205 (dk_at dksX5_endSession_3 0 rfl rfl)
theorem dX5_endSession_71 : decode cX5_endSession 71 = .ok (.aload_n 0, 1) := dk_42 (dk_at dksX5_endSession_3 3 rfl rfl)
theorem dX5_endSession_72 : decode cX5_endSession 72 = .ok (.iload_n 1, 1) := dk_27 (dk_at dksX5_endSession_3 4 rfl rfl)
theorem dX5_endSession_73 : decode cX5_endSession 73 = .ok (.invokevirtual 267, 3) := dk_182 1 11 (dk_at dksX5_endSession_3 5 rfl rfl)
theorem dX5_endSession_76 : decode cX5_endSession 76 = .ok (.iload_n 2, 1) := dk_28 (dk_at dksX5_endSession_3 8 rfl rfl)
theorem dX5_endSession_77 : decode cX5_endSession 77 = .ok (.ireturn, 1) := dk_172 (dk_at dksX5_endSession_3 9 rfl rfl)
abbrev cX5_endFamiliesOf : ByteArray := prog_14_method_21_code
def yX5_endFamiliesOf : MethodName := ⟨RX5, "endFamiliesOf", "(I)V"⟩
def dkwX5_endFamiliesOf_1 : List UInt8 := [160, 0, 8, 42, 28, 182, 1, 7, 132, 2, 1, 167, 255, 225, 177]
abbrev dktX5_endFamiliesOf_1 : List UInt8 := dkwX5_endFamiliesOf_1 ++ []
def dkwX5_endFamiliesOf_0 : List UInt8 := [3, 61, 28, 42, 180, 0, 238, 162, 0, 29, 42, 180, 0, 116, 42, 180, 0, 134, 28, 46, 46, 27]
abbrev dktX5_endFamiliesOf_0 : List UInt8 := dkwX5_endFamiliesOf_0 ++ dktX5_endFamiliesOf_1
theorem dksX5_endFamiliesOf_0 : cX5_endFamiliesOf.data.toList.drop 0 = dktX5_endFamiliesOf_0 := by decide +kernel
theorem dksX5_endFamiliesOf_1 : cX5_endFamiliesOf.data.toList.drop 22 = dktX5_endFamiliesOf_1 := dk_seg dksX5_endFamiliesOf_0 22 rfl rfl
theorem dX5_endFamiliesOf_0 : decode cX5_endFamiliesOf 0 = .ok (.iconst 0, 1) := dk_3 (dk_at dksX5_endFamiliesOf_0 0 rfl rfl)
theorem dX5_endFamiliesOf_1 : decode cX5_endFamiliesOf 1 = .ok (.istore_n 2, 1) := dk_61 (dk_at dksX5_endFamiliesOf_0 1 rfl rfl)
theorem dX5_endFamiliesOf_2 : decode cX5_endFamiliesOf 2 = .ok (.iload_n 2, 1) := dk_28 (dk_at dksX5_endFamiliesOf_0 2 rfl rfl)
theorem dX5_endFamiliesOf_3 : decode cX5_endFamiliesOf 3 = .ok (.aload_n 0, 1) := dk_42 (dk_at dksX5_endFamiliesOf_0 3 rfl rfl)
theorem dX5_endFamiliesOf_4 : decode cX5_endFamiliesOf 4 = .ok (.getfield 238, 3) := dk_180 0 238 (dk_at dksX5_endFamiliesOf_0 4 rfl rfl)
theorem dX5_endFamiliesOf_7 : decode cX5_endFamiliesOf 7 = .ok (.if_icmp .ge 29, 3) := dk_162 0 29 (dk_at dksX5_endFamiliesOf_0 7 rfl rfl)
theorem dX5_endFamiliesOf_10 : decode cX5_endFamiliesOf 10 = .ok (.aload_n 0, 1) := dk_42 (dk_at dksX5_endFamiliesOf_0 10 rfl rfl)
theorem dX5_endFamiliesOf_11 : decode cX5_endFamiliesOf 11 = .ok (.getfield 116, 3) := dk_180 0 116 (dk_at dksX5_endFamiliesOf_0 11 rfl rfl)
theorem dX5_endFamiliesOf_14 : decode cX5_endFamiliesOf 14 = .ok (.aload_n 0, 1) := dk_42 (dk_at dksX5_endFamiliesOf_0 14 rfl rfl)
theorem dX5_endFamiliesOf_15 : decode cX5_endFamiliesOf 15 = .ok (.getfield 134, 3) := dk_180 0 134 (dk_at dksX5_endFamiliesOf_0 15 rfl rfl)
theorem dX5_endFamiliesOf_18 : decode cX5_endFamiliesOf 18 = .ok (.iload_n 2, 1) := dk_28 (dk_at dksX5_endFamiliesOf_0 18 rfl rfl)
theorem dX5_endFamiliesOf_19 : decode cX5_endFamiliesOf 19 = .ok (.iaload, 1) := dk_46 (dk_at dksX5_endFamiliesOf_0 19 rfl rfl)
theorem dX5_endFamiliesOf_20 : decode cX5_endFamiliesOf 20 = .ok (.iaload, 1) := dk_46 (dk_at dksX5_endFamiliesOf_0 20 rfl rfl)
theorem dX5_endFamiliesOf_21 : decode cX5_endFamiliesOf 21 = .ok (.iload_n 1, 1) := dk_27 (dk_at dksX5_endFamiliesOf_0 21 rfl rfl)
theorem dX5_endFamiliesOf_22 : decode cX5_endFamiliesOf 22 = .ok (.if_icmp .ne 8, 3) := dk_160 0 8 (dk_at dksX5_endFamiliesOf_1 0 rfl rfl)
theorem dX5_endFamiliesOf_25 : decode cX5_endFamiliesOf 25 = .ok (.aload_n 0, 1) := dk_42 (dk_at dksX5_endFamiliesOf_1 3 rfl rfl)
theorem dX5_endFamiliesOf_26 : decode cX5_endFamiliesOf 26 = .ok (.iload_n 2, 1) := dk_28 (dk_at dksX5_endFamiliesOf_1 4 rfl rfl)
theorem dX5_endFamiliesOf_27 : decode cX5_endFamiliesOf 27 = .ok (.invokevirtual 263, 3) := dk_182 1 7 (dk_at dksX5_endFamiliesOf_1 5 rfl rfl)
theorem dX5_endFamiliesOf_30 : decode cX5_endFamiliesOf 30 = .ok (.iinc 2 1, 3) := dk_132 2 1 (dk_at dksX5_endFamiliesOf_1 8 rfl rfl)
theorem dX5_endFamiliesOf_33 : decode cX5_endFamiliesOf 33 = .ok (.goto (-31), 3) := dk_167 255 225 (dk_at dksX5_endFamiliesOf_1 11 rfl rfl)
theorem dX5_endFamiliesOf_36 : decode cX5_endFamiliesOf 36 = .ok (.return_, 1) := dk_177 (dk_at dksX5_endFamiliesOf_1 14 rfl rfl)
abbrev cX5_endFamily : ByteArray := prog_14_method_20_code
def yX5_endFamily : MethodName := ⟨RX5, "endFamily", "(I)V"⟩
def dkwX5_endFamily_3 : List UInt8 := [177]
abbrev dktX5_endFamily_3 : List UInt8 := dkwX5_endFamily_3 ++ []
def dkwX5_endFamily_2 : List UInt8 := [154, 0, 16, 42, 28, 27, 182, 1, 3, 153, 0, 7, 4, 167, 0, 4, 3, 84, 132, 2, 1, 167, 255, 214]
abbrev dktX5_endFamily_2 : List UInt8 := dkwX5_endFamily_2 ++ dktX5_endFamily_3
def dkwX5_endFamily_1 : List UInt8 := [61, 28, 7, 162, 0, 43, 42, 180, 0, 192, 16, 60, 28, 104, 27, 96, 42, 180, 0, 183, 28, 51]
abbrev dktX5_endFamily_1 : List UInt8 := dkwX5_endFamily_1 ++ dktX5_endFamily_2
def dkwX5_endFamily_0 : List UInt8 := [42, 180, 0, 146, 27, 51, 154, 0, 4, 177, 42, 180, 0, 146, 27, 3, 84, 42, 6, 27, 182, 0, 255, 3]
abbrev dktX5_endFamily_0 : List UInt8 := dkwX5_endFamily_0 ++ dktX5_endFamily_1
theorem dksX5_endFamily_0 : cX5_endFamily.data.toList.drop 0 = dktX5_endFamily_0 := by decide +kernel
theorem dksX5_endFamily_1 : cX5_endFamily.data.toList.drop 24 = dktX5_endFamily_1 := dk_seg dksX5_endFamily_0 24 rfl rfl
theorem dksX5_endFamily_2 : cX5_endFamily.data.toList.drop 46 = dktX5_endFamily_2 := dk_seg dksX5_endFamily_1 22 rfl rfl
theorem dksX5_endFamily_3 : cX5_endFamily.data.toList.drop 70 = dktX5_endFamily_3 := dk_seg dksX5_endFamily_2 24 rfl rfl
theorem dX5_endFamily_0 : decode cX5_endFamily 0 = .ok (.aload_n 0, 1) := dk_42 (dk_at dksX5_endFamily_0 0 rfl rfl)
theorem dX5_endFamily_1 : decode cX5_endFamily 1 = .ok (.getfield 146, 3) := dk_180 0 146 (dk_at dksX5_endFamily_0 1 rfl rfl)
theorem dX5_endFamily_4 : decode cX5_endFamily 4 = .ok (.iload_n 1, 1) := dk_27 (dk_at dksX5_endFamily_0 4 rfl rfl)
theorem dX5_endFamily_5 : decode cX5_endFamily 5 = .ok (.baload, 1) := dk_51 (dk_at dksX5_endFamily_0 5 rfl rfl)
theorem dX5_endFamily_6 : decode cX5_endFamily 6 = .ok (.ifCond .ne 4, 3) := dk_154 0 4 (dk_at dksX5_endFamily_0 6 rfl rfl)
theorem dX5_endFamily_9 : decode cX5_endFamily 9 = .ok (.return_, 1) := dk_177 (dk_at dksX5_endFamily_0 9 rfl rfl)
theorem dX5_endFamily_10 : decode cX5_endFamily 10 = .ok (.aload_n 0, 1) := dk_42 (dk_at dksX5_endFamily_0 10 rfl rfl)
theorem dX5_endFamily_11 : decode cX5_endFamily 11 = .ok (.getfield 146, 3) := dk_180 0 146 (dk_at dksX5_endFamily_0 11 rfl rfl)
theorem dX5_endFamily_14 : decode cX5_endFamily 14 = .ok (.iload_n 1, 1) := dk_27 (dk_at dksX5_endFamily_0 14 rfl rfl)
theorem dX5_endFamily_15 : decode cX5_endFamily 15 = .ok (.iconst 0, 1) := dk_3 (dk_at dksX5_endFamily_0 15 rfl rfl)
theorem dX5_endFamily_16 : decode cX5_endFamily 16 = .ok (.bastore, 1) := dk_84 (dk_at dksX5_endFamily_0 16 rfl rfl)
theorem dX5_endFamily_17 : decode cX5_endFamily 17 = .ok (.aload_n 0, 1) := dk_42 (dk_at dksX5_endFamily_0 17 rfl rfl)
theorem dX5_endFamily_18 : decode cX5_endFamily 18 = .ok (.iconst 3, 1) := dk_6 (dk_at dksX5_endFamily_0 18 rfl rfl)
theorem dX5_endFamily_19 : decode cX5_endFamily 19 = .ok (.iload_n 1, 1) := dk_27 (dk_at dksX5_endFamily_0 19 rfl rfl)
theorem dX5_endFamily_20 : decode cX5_endFamily 20 = .ok (.invokevirtual 255, 3) := dk_182 0 255 (dk_at dksX5_endFamily_0 20 rfl rfl)
theorem dX5_endFamily_23 : decode cX5_endFamily 23 = .ok (.iconst 0, 1) := dk_3 (dk_at dksX5_endFamily_0 23 rfl rfl)
theorem dX5_endFamily_24 : decode cX5_endFamily 24 = .ok (.istore_n 2, 1) := dk_61 (dk_at dksX5_endFamily_1 0 rfl rfl)
theorem dX5_endFamily_25 : decode cX5_endFamily 25 = .ok (.iload_n 2, 1) := dk_28 (dk_at dksX5_endFamily_1 1 rfl rfl)
theorem dX5_endFamily_26 : decode cX5_endFamily 26 = .ok (.iconst 4, 1) := dk_7 (dk_at dksX5_endFamily_1 2 rfl rfl)
theorem dX5_endFamily_27 : decode cX5_endFamily 27 = .ok (.if_icmp .ge 43, 3) := dk_162 0 43 (dk_at dksX5_endFamily_1 3 rfl rfl)
theorem dX5_endFamily_30 : decode cX5_endFamily 30 = .ok (.aload_n 0, 1) := dk_42 (dk_at dksX5_endFamily_1 6 rfl rfl)
theorem dX5_endFamily_31 : decode cX5_endFamily 31 = .ok (.getfield 192, 3) := dk_180 0 192 (dk_at dksX5_endFamily_1 7 rfl rfl)
theorem dX5_endFamily_34 : decode cX5_endFamily 34 = .ok (.bipush 60, 2) := dk_16 60 (dk_at dksX5_endFamily_1 10 rfl rfl)
theorem dX5_endFamily_36 : decode cX5_endFamily 36 = .ok (.iload_n 2, 1) := dk_28 (dk_at dksX5_endFamily_1 12 rfl rfl)
theorem dX5_endFamily_37 : decode cX5_endFamily 37 = .ok (.imul, 1) := dk_104 (dk_at dksX5_endFamily_1 13 rfl rfl)
theorem dX5_endFamily_38 : decode cX5_endFamily 38 = .ok (.iload_n 1, 1) := dk_27 (dk_at dksX5_endFamily_1 14 rfl rfl)
theorem dX5_endFamily_39 : decode cX5_endFamily 39 = .ok (.iadd, 1) := dk_96 (dk_at dksX5_endFamily_1 15 rfl rfl)
theorem dX5_endFamily_40 : decode cX5_endFamily 40 = .ok (.aload_n 0, 1) := dk_42 (dk_at dksX5_endFamily_1 16 rfl rfl)
theorem dX5_endFamily_41 : decode cX5_endFamily 41 = .ok (.getfield 183, 3) := dk_180 0 183 (dk_at dksX5_endFamily_1 17 rfl rfl)
theorem dX5_endFamily_44 : decode cX5_endFamily 44 = .ok (.iload_n 2, 1) := dk_28 (dk_at dksX5_endFamily_1 20 rfl rfl)
theorem dX5_endFamily_45 : decode cX5_endFamily 45 = .ok (.baload, 1) := dk_51 (dk_at dksX5_endFamily_1 21 rfl rfl)
theorem dX5_endFamily_46 : decode cX5_endFamily 46 = .ok (.ifCond .ne 16, 3) := dk_154 0 16 (dk_at dksX5_endFamily_2 0 rfl rfl)
theorem dX5_endFamily_49 : decode cX5_endFamily 49 = .ok (.aload_n 0, 1) := dk_42 (dk_at dksX5_endFamily_2 3 rfl rfl)
theorem dX5_endFamily_50 : decode cX5_endFamily 50 = .ok (.iload_n 2, 1) := dk_28 (dk_at dksX5_endFamily_2 4 rfl rfl)
theorem dX5_endFamily_51 : decode cX5_endFamily 51 = .ok (.iload_n 1, 1) := dk_27 (dk_at dksX5_endFamily_2 5 rfl rfl)
theorem dX5_endFamily_52 : decode cX5_endFamily 52 = .ok (.invokevirtual 259, 3) := dk_182 1 3 (dk_at dksX5_endFamily_2 6 rfl rfl)
theorem dX5_endFamily_55 : decode cX5_endFamily 55 = .ok (.ifCond .eq 7, 3) := dk_153 0 7 (dk_at dksX5_endFamily_2 9 rfl rfl)
theorem dX5_endFamily_58 : decode cX5_endFamily 58 = .ok (.iconst 1, 1) := dk_4 (dk_at dksX5_endFamily_2 12 rfl rfl)
theorem dX5_endFamily_59 : decode cX5_endFamily 59 = .ok (.goto 4, 3) := dk_167 0 4 (dk_at dksX5_endFamily_2 13 rfl rfl)
theorem dX5_endFamily_62 : decode cX5_endFamily 62 = .ok (.iconst 0, 1) := dk_3 (dk_at dksX5_endFamily_2 16 rfl rfl)
theorem dX5_endFamily_63 : decode cX5_endFamily 63 = .ok (.bastore, 1) := dk_84 (dk_at dksX5_endFamily_2 17 rfl rfl)
theorem dX5_endFamily_64 : decode cX5_endFamily 64 = .ok (.iinc 2 1, 3) := dk_132 2 1 (dk_at dksX5_endFamily_2 18 rfl rfl)
theorem dX5_endFamily_67 : decode cX5_endFamily 67 = .ok (.goto (-42), 3) := dk_167 255 214 (dk_at dksX5_endFamily_2 21 rfl rfl)
theorem dX5_endFamily_70 : decode cX5_endFamily 70 = .ok (.return_, 1) := dk_177 (dk_at dksX5_endFamily_3 0 rfl rfl)
abbrev cX5_hears : ByteArray := prog_14_method_19_code
def yX5_hears : MethodName := ⟨RX5, "hears", "(II)Z"⟩
def dkwX5_hears_2 : List UInt8 := [132, 4, 1, 167, 255, 212, 29, 172]
abbrev dktX5_hears_2 : List UInt8 := dkwX5_hears_2 ++ []
def dkwX5_hears_1 : List UInt8 := [46, 28, 160, 0, 18, 42, 180, 0, 152, 21, 4, 46, 27, 160, 0, 7, 4, 167, 0, 4, 3, 62]
abbrev dktX5_hears_1 : List UInt8 := dkwX5_hears_1 ++ dktX5_hears_2
def dkwX5_hears_0 : List UInt8 := [3, 62, 3, 54, 4, 21, 4, 42, 180, 0, 241, 162, 0, 41, 29, 154, 0, 25, 42, 180, 0, 161, 21, 4]
abbrev dktX5_hears_0 : List UInt8 := dkwX5_hears_0 ++ dktX5_hears_1
theorem dksX5_hears_0 : cX5_hears.data.toList.drop 0 = dktX5_hears_0 := by decide +kernel
theorem dksX5_hears_1 : cX5_hears.data.toList.drop 24 = dktX5_hears_1 := dk_seg dksX5_hears_0 24 rfl rfl
theorem dksX5_hears_2 : cX5_hears.data.toList.drop 46 = dktX5_hears_2 := dk_seg dksX5_hears_1 22 rfl rfl
theorem dX5_hears_0 : decode cX5_hears 0 = .ok (.iconst 0, 1) := dk_3 (dk_at dksX5_hears_0 0 rfl rfl)
theorem dX5_hears_1 : decode cX5_hears 1 = .ok (.istore_n 3, 1) := dk_62 (dk_at dksX5_hears_0 1 rfl rfl)
theorem dX5_hears_2 : decode cX5_hears 2 = .ok (.iconst 0, 1) := dk_3 (dk_at dksX5_hears_0 2 rfl rfl)
theorem dX5_hears_3 : decode cX5_hears 3 = .ok (.istore 4, 2) := dk_54 4 (dk_at dksX5_hears_0 3 rfl rfl)
theorem dX5_hears_5 : decode cX5_hears 5 = .ok (.iload 4, 2) := dk_21 4 (dk_at dksX5_hears_0 5 rfl rfl)
theorem dX5_hears_7 : decode cX5_hears 7 = .ok (.aload_n 0, 1) := dk_42 (dk_at dksX5_hears_0 7 rfl rfl)
theorem dX5_hears_8 : decode cX5_hears 8 = .ok (.getfield 241, 3) := dk_180 0 241 (dk_at dksX5_hears_0 8 rfl rfl)
theorem dX5_hears_11 : decode cX5_hears 11 = .ok (.if_icmp .ge 41, 3) := dk_162 0 41 (dk_at dksX5_hears_0 11 rfl rfl)
theorem dX5_hears_14 : decode cX5_hears 14 = .ok (.iload_n 3, 1) := dk_29 (dk_at dksX5_hears_0 14 rfl rfl)
theorem dX5_hears_15 : decode cX5_hears 15 = .ok (.ifCond .ne 25, 3) := dk_154 0 25 (dk_at dksX5_hears_0 15 rfl rfl)
theorem dX5_hears_18 : decode cX5_hears 18 = .ok (.aload_n 0, 1) := dk_42 (dk_at dksX5_hears_0 18 rfl rfl)
theorem dX5_hears_19 : decode cX5_hears 19 = .ok (.getfield 161, 3) := dk_180 0 161 (dk_at dksX5_hears_0 19 rfl rfl)
theorem dX5_hears_22 : decode cX5_hears 22 = .ok (.iload 4, 2) := dk_21 4 (dk_at dksX5_hears_0 22 rfl rfl)
theorem dX5_hears_24 : decode cX5_hears 24 = .ok (.iaload, 1) := dk_46 (dk_at dksX5_hears_1 0 rfl rfl)
theorem dX5_hears_25 : decode cX5_hears 25 = .ok (.iload_n 2, 1) := dk_28 (dk_at dksX5_hears_1 1 rfl rfl)
theorem dX5_hears_26 : decode cX5_hears 26 = .ok (.if_icmp .ne 18, 3) := dk_160 0 18 (dk_at dksX5_hears_1 2 rfl rfl)
theorem dX5_hears_29 : decode cX5_hears 29 = .ok (.aload_n 0, 1) := dk_42 (dk_at dksX5_hears_1 5 rfl rfl)
theorem dX5_hears_30 : decode cX5_hears 30 = .ok (.getfield 152, 3) := dk_180 0 152 (dk_at dksX5_hears_1 6 rfl rfl)
theorem dX5_hears_33 : decode cX5_hears 33 = .ok (.iload 4, 2) := dk_21 4 (dk_at dksX5_hears_1 9 rfl rfl)
theorem dX5_hears_35 : decode cX5_hears 35 = .ok (.iaload, 1) := dk_46 (dk_at dksX5_hears_1 11 rfl rfl)
theorem dX5_hears_36 : decode cX5_hears 36 = .ok (.iload_n 1, 1) := dk_27 (dk_at dksX5_hears_1 12 rfl rfl)
theorem dX5_hears_37 : decode cX5_hears 37 = .ok (.if_icmp .ne 7, 3) := dk_160 0 7 (dk_at dksX5_hears_1 13 rfl rfl)
theorem dX5_hears_40 : decode cX5_hears 40 = .ok (.iconst 1, 1) := dk_4 (dk_at dksX5_hears_1 16 rfl rfl)
theorem dX5_hears_41 : decode cX5_hears 41 = .ok (.goto 4, 3) := dk_167 0 4 (dk_at dksX5_hears_1 17 rfl rfl)
theorem dX5_hears_44 : decode cX5_hears 44 = .ok (.iconst 0, 1) := dk_3 (dk_at dksX5_hears_1 20 rfl rfl)
theorem dX5_hears_45 : decode cX5_hears 45 = .ok (.istore_n 3, 1) := dk_62 (dk_at dksX5_hears_1 21 rfl rfl)
theorem dX5_hears_46 : decode cX5_hears 46 = .ok (.iinc 4 1, 3) := dk_132 4 1 (dk_at dksX5_hears_2 0 rfl rfl)
theorem dX5_hears_49 : decode cX5_hears 49 = .ok (.goto (-44), 3) := dk_167 255 212 (dk_at dksX5_hears_2 3 rfl rfl)
theorem dX5_hears_52 : decode cX5_hears 52 = .ok (.iload_n 3, 1) := dk_29 (dk_at dksX5_hears_2 6 rfl rfl)
theorem dX5_hears_53 : decode cX5_hears 53 = .ok (.ireturn, 1) := dk_172 (dk_at dksX5_hears_2 7 rfl rfl)
abbrev cX5_enroll : ByteArray := prog_14_method_26_code
def yX5_enroll : MethodName := ⟨RX5, "enroll", "(II)I"⟩
def dkwX5_enroll_1 : List UInt8 := [28, 96, 46, 62, 42, 27, 28, 182, 1, 35, 29, 172]
abbrev dktX5_enroll_1 : List UInt8 := dkwX5_enroll_1 ++ []
def dkwX5_enroll_0 : List UInt8 := [42, 27, 184, 1, 28, 28, 184, 1, 32, 182, 1, 18, 154, 0, 5, 3, 172, 42, 180, 0, 7, 6, 27, 104]
abbrev dktX5_enroll_0 : List UInt8 := dkwX5_enroll_0 ++ dktX5_enroll_1
theorem dksX5_enroll_0 : cX5_enroll.data.toList.drop 0 = dktX5_enroll_0 := by decide +kernel
theorem dksX5_enroll_1 : cX5_enroll.data.toList.drop 24 = dktX5_enroll_1 := dk_seg dksX5_enroll_0 24 rfl rfl
theorem dX5_enroll_0 : decode cX5_enroll 0 = .ok (.aload_n 0, 1) := dk_42 (dk_at dksX5_enroll_0 0 rfl rfl)
theorem dX5_enroll_1 : decode cX5_enroll 1 = .ok (.iload_n 1, 1) := dk_27 (dk_at dksX5_enroll_0 1 rfl rfl)
theorem dX5_enroll_2 : decode cX5_enroll 2 = .ok (.invokestatic 284, 3) := dk_184 1 28 (dk_at dksX5_enroll_0 2 rfl rfl)
theorem dX5_enroll_5 : decode cX5_enroll 5 = .ok (.iload_n 2, 1) := dk_28 (dk_at dksX5_enroll_0 5 rfl rfl)
theorem dX5_enroll_6 : decode cX5_enroll 6 = .ok (.invokestatic 288, 3) := dk_184 1 32 (dk_at dksX5_enroll_0 6 rfl rfl)
theorem dX5_enroll_9 : decode cX5_enroll 9 = .ok (.invokevirtual 274, 3) := dk_182 1 18 (dk_at dksX5_enroll_0 9 rfl rfl)
theorem dX5_enroll_12 : decode cX5_enroll 12 = .ok (.ifCond .ne 5, 3) := dk_154 0 5 (dk_at dksX5_enroll_0 12 rfl rfl)
theorem dX5_enroll_15 : decode cX5_enroll 15 = .ok (.iconst 0, 1) := dk_3 (dk_at dksX5_enroll_0 15 rfl rfl)
theorem dX5_enroll_16 : decode cX5_enroll 16 = .ok (.ireturn, 1) := dk_172 (dk_at dksX5_enroll_0 16 rfl rfl)
theorem dX5_enroll_17 : decode cX5_enroll 17 = .ok (.aload_n 0, 1) := dk_42 (dk_at dksX5_enroll_0 17 rfl rfl)
theorem dX5_enroll_18 : decode cX5_enroll 18 = .ok (.getfield 7, 3) := dk_180 0 7 (dk_at dksX5_enroll_0 18 rfl rfl)
theorem dX5_enroll_21 : decode cX5_enroll 21 = .ok (.iconst 3, 1) := dk_6 (dk_at dksX5_enroll_0 21 rfl rfl)
theorem dX5_enroll_22 : decode cX5_enroll 22 = .ok (.iload_n 1, 1) := dk_27 (dk_at dksX5_enroll_0 22 rfl rfl)
theorem dX5_enroll_23 : decode cX5_enroll 23 = .ok (.imul, 1) := dk_104 (dk_at dksX5_enroll_0 23 rfl rfl)
theorem dX5_enroll_24 : decode cX5_enroll 24 = .ok (.iload_n 2, 1) := dk_28 (dk_at dksX5_enroll_1 0 rfl rfl)
theorem dX5_enroll_25 : decode cX5_enroll 25 = .ok (.iadd, 1) := dk_96 (dk_at dksX5_enroll_1 1 rfl rfl)
theorem dX5_enroll_26 : decode cX5_enroll 26 = .ok (.iaload, 1) := dk_46 (dk_at dksX5_enroll_1 2 rfl rfl)
theorem dX5_enroll_27 : decode cX5_enroll 27 = .ok (.istore_n 3, 1) := dk_62 (dk_at dksX5_enroll_1 3 rfl rfl)
theorem dX5_enroll_28 : decode cX5_enroll 28 = .ok (.aload_n 0, 1) := dk_42 (dk_at dksX5_enroll_1 4 rfl rfl)
theorem dX5_enroll_29 : decode cX5_enroll 29 = .ok (.iload_n 1, 1) := dk_27 (dk_at dksX5_enroll_1 5 rfl rfl)
theorem dX5_enroll_30 : decode cX5_enroll 30 = .ok (.iload_n 2, 1) := dk_28 (dk_at dksX5_enroll_1 6 rfl rfl)
theorem dX5_enroll_31 : decode cX5_enroll 31 = .ok (.invokevirtual 291, 3) := dk_182 1 35 (dk_at dksX5_enroll_1 7 rfl rfl)
theorem dX5_enroll_34 : decode cX5_enroll 34 = .ok (.iload_n 3, 1) := dk_29 (dk_at dksX5_enroll_1 10 rfl rfl)
theorem dX5_enroll_35 : decode cX5_enroll 35 = .ok (.ireturn, 1) := dk_172 (dk_at dksX5_enroll_1 11 rfl rfl)
abbrev cX5_isSix : ByteArray := prog_14_method_7_code
def yX5_isSix : MethodName := ⟨RX5, "isSix", "(I)Z"⟩
def dkwX5_isSix_0 : List UInt8 := [26, 3, 8, 184, 0, 228, 172]
abbrev dktX5_isSix_0 : List UInt8 := dkwX5_isSix_0 ++ []
theorem dksX5_isSix_0 : cX5_isSix.data.toList.drop 0 = dktX5_isSix_0 := by decide +kernel
theorem dX5_isSix_0 : decode cX5_isSix 0 = .ok (.iload_n 0, 1) := dk_26 (dk_at dksX5_isSix_0 0 rfl rfl)
theorem dX5_isSix_1 : decode cX5_isSix 1 = .ok (.iconst 0, 1) := dk_3 (dk_at dksX5_isSix_0 1 rfl rfl)
theorem dX5_isSix_2 : decode cX5_isSix 2 = .ok (.iconst 5, 1) := dk_8 (dk_at dksX5_isSix_0 2 rfl rfl)
theorem dX5_isSix_3 : decode cX5_isSix 3 = .ok (.invokestatic 228, 3) := dk_184 0 228 (dk_at dksX5_isSix_0 3 rfl rfl)
theorem dX5_isSix_6 : decode cX5_isSix 6 = .ok (.ireturn, 1) := dk_172 (dk_at dksX5_isSix_0 6 rfl rfl)
abbrev cX5_isFactor : ByteArray := prog_14_method_8_code
def yX5_isFactor : MethodName := ⟨RX5, "isFactor", "(I)Z"⟩
def dkwX5_isFactor_0 : List UInt8 := [26, 3, 5, 184, 0, 228, 172]
abbrev dktX5_isFactor_0 : List UInt8 := dkwX5_isFactor_0 ++ []
theorem dksX5_isFactor_0 : cX5_isFactor.data.toList.drop 0 = dktX5_isFactor_0 := by decide +kernel
theorem dX5_isFactor_0 : decode cX5_isFactor 0 = .ok (.iload_n 0, 1) := dk_26 (dk_at dksX5_isFactor_0 0 rfl rfl)
theorem dX5_isFactor_1 : decode cX5_isFactor 1 = .ok (.iconst 0, 1) := dk_3 (dk_at dksX5_isFactor_0 1 rfl rfl)
theorem dX5_isFactor_2 : decode cX5_isFactor 2 = .ok (.iconst 2, 1) := dk_5 (dk_at dksX5_isFactor_0 2 rfl rfl)
theorem dX5_isFactor_3 : decode cX5_isFactor 3 = .ok (.invokestatic 228, 3) := dk_184 0 228 (dk_at dksX5_isFactor_0 3 rfl rfl)
theorem dX5_isFactor_6 : decode cX5_isFactor 6 = .ok (.ireturn, 1) := dk_172 (dk_at dksX5_isFactor_0 6 rfl rfl)
abbrev cX5_ready : ByteArray := prog_14_method_25_code
def yX5_ready : MethodName := ⟨RX5, "ready", "(II)V"⟩
def dkwX5_ready_1 : List UInt8 := [160, 0, 10, 42, 180, 0, 16, 27, 3, 79, 177]
abbrev dktX5_ready_1 : List UInt8 := dkwX5_ready_1 ++ []
def dkwX5_ready_0 : List UInt8 := [42, 180, 0, 7, 6, 27, 104, 28, 96, 4, 79, 42, 180, 0, 13, 6, 27, 104, 28, 96, 3, 79, 28, 5]
abbrev dktX5_ready_0 : List UInt8 := dkwX5_ready_0 ++ dktX5_ready_1
theorem dksX5_ready_0 : cX5_ready.data.toList.drop 0 = dktX5_ready_0 := by decide +kernel
theorem dksX5_ready_1 : cX5_ready.data.toList.drop 24 = dktX5_ready_1 := dk_seg dksX5_ready_0 24 rfl rfl
theorem dX5_ready_0 : decode cX5_ready 0 = .ok (.aload_n 0, 1) := dk_42 (dk_at dksX5_ready_0 0 rfl rfl)
theorem dX5_ready_1 : decode cX5_ready 1 = .ok (.getfield 7, 3) := dk_180 0 7 (dk_at dksX5_ready_0 1 rfl rfl)
theorem dX5_ready_4 : decode cX5_ready 4 = .ok (.iconst 3, 1) := dk_6 (dk_at dksX5_ready_0 4 rfl rfl)
theorem dX5_ready_5 : decode cX5_ready 5 = .ok (.iload_n 1, 1) := dk_27 (dk_at dksX5_ready_0 5 rfl rfl)
theorem dX5_ready_6 : decode cX5_ready 6 = .ok (.imul, 1) := dk_104 (dk_at dksX5_ready_0 6 rfl rfl)
theorem dX5_ready_7 : decode cX5_ready 7 = .ok (.iload_n 2, 1) := dk_28 (dk_at dksX5_ready_0 7 rfl rfl)
theorem dX5_ready_8 : decode cX5_ready 8 = .ok (.iadd, 1) := dk_96 (dk_at dksX5_ready_0 8 rfl rfl)
theorem dX5_ready_9 : decode cX5_ready 9 = .ok (.iconst 1, 1) := dk_4 (dk_at dksX5_ready_0 9 rfl rfl)
theorem dX5_ready_10 : decode cX5_ready 10 = .ok (.iastore, 1) := dk_79 (dk_at dksX5_ready_0 10 rfl rfl)
theorem dX5_ready_11 : decode cX5_ready 11 = .ok (.aload_n 0, 1) := dk_42 (dk_at dksX5_ready_0 11 rfl rfl)
theorem dX5_ready_12 : decode cX5_ready 12 = .ok (.getfield 13, 3) := dk_180 0 13 (dk_at dksX5_ready_0 12 rfl rfl)
theorem dX5_ready_15 : decode cX5_ready 15 = .ok (.iconst 3, 1) := dk_6 (dk_at dksX5_ready_0 15 rfl rfl)
theorem dX5_ready_16 : decode cX5_ready 16 = .ok (.iload_n 1, 1) := dk_27 (dk_at dksX5_ready_0 16 rfl rfl)
theorem dX5_ready_17 : decode cX5_ready 17 = .ok (.imul, 1) := dk_104 (dk_at dksX5_ready_0 17 rfl rfl)
theorem dX5_ready_18 : decode cX5_ready 18 = .ok (.iload_n 2, 1) := dk_28 (dk_at dksX5_ready_0 18 rfl rfl)
theorem dX5_ready_19 : decode cX5_ready 19 = .ok (.iadd, 1) := dk_96 (dk_at dksX5_ready_0 19 rfl rfl)
theorem dX5_ready_20 : decode cX5_ready 20 = .ok (.iconst 0, 1) := dk_3 (dk_at dksX5_ready_0 20 rfl rfl)
theorem dX5_ready_21 : decode cX5_ready 21 = .ok (.iastore, 1) := dk_79 (dk_at dksX5_ready_0 21 rfl rfl)
theorem dX5_ready_22 : decode cX5_ready 22 = .ok (.iload_n 2, 1) := dk_28 (dk_at dksX5_ready_0 22 rfl rfl)
theorem dX5_ready_23 : decode cX5_ready 23 = .ok (.iconst 2, 1) := dk_5 (dk_at dksX5_ready_0 23 rfl rfl)
theorem dX5_ready_24 : decode cX5_ready 24 = .ok (.if_icmp .ne 10, 3) := dk_160 0 10 (dk_at dksX5_ready_1 0 rfl rfl)
theorem dX5_ready_27 : decode cX5_ready 27 = .ok (.aload_n 0, 1) := dk_42 (dk_at dksX5_ready_1 3 rfl rfl)
theorem dX5_ready_28 : decode cX5_ready 28 = .ok (.getfield 16, 3) := dk_180 0 16 (dk_at dksX5_ready_1 4 rfl rfl)
theorem dX5_ready_31 : decode cX5_ready 31 = .ok (.iload_n 1, 1) := dk_27 (dk_at dksX5_ready_1 7 rfl rfl)
theorem dX5_ready_32 : decode cX5_ready 32 = .ok (.iconst 0, 1) := dk_3 (dk_at dksX5_ready_1 8 rfl rfl)
theorem dX5_ready_33 : decode cX5_ready 33 = .ok (.iastore, 1) := dk_79 (dk_at dksX5_ready_1 9 rfl rfl)
theorem dX5_ready_34 : decode cX5_ready 34 = .ok (.return_, 1) := dk_177 (dk_at dksX5_ready_1 10 rfl rfl)
abbrev cX5_factor : ByteArray := prog_14_method_27_code
def yX5_factor : MethodName := ⟨RX5, "factor", "(II)I"⟩
def dkwX5_factor_1 : List UInt8 := [46, 167, 0, 4, 3, 172]
abbrev dktX5_factor_1 : List UInt8 := dkwX5_factor_1 ++ []
def dkwX5_factor_0 : List UInt8 := [42, 27, 184, 1, 28, 28, 184, 1, 32, 182, 1, 18, 153, 0, 16, 42, 180, 0, 7, 6, 27, 104, 28, 96]
abbrev dktX5_factor_0 : List UInt8 := dkwX5_factor_0 ++ dktX5_factor_1
theorem dksX5_factor_0 : cX5_factor.data.toList.drop 0 = dktX5_factor_0 := by decide +kernel
theorem dksX5_factor_1 : cX5_factor.data.toList.drop 24 = dktX5_factor_1 := dk_seg dksX5_factor_0 24 rfl rfl
theorem dX5_factor_0 : decode cX5_factor 0 = .ok (.aload_n 0, 1) := dk_42 (dk_at dksX5_factor_0 0 rfl rfl)
theorem dX5_factor_1 : decode cX5_factor 1 = .ok (.iload_n 1, 1) := dk_27 (dk_at dksX5_factor_0 1 rfl rfl)
theorem dX5_factor_2 : decode cX5_factor 2 = .ok (.invokestatic 284, 3) := dk_184 1 28 (dk_at dksX5_factor_0 2 rfl rfl)
theorem dX5_factor_5 : decode cX5_factor 5 = .ok (.iload_n 2, 1) := dk_28 (dk_at dksX5_factor_0 5 rfl rfl)
theorem dX5_factor_6 : decode cX5_factor 6 = .ok (.invokestatic 288, 3) := dk_184 1 32 (dk_at dksX5_factor_0 6 rfl rfl)
theorem dX5_factor_9 : decode cX5_factor 9 = .ok (.invokevirtual 274, 3) := dk_182 1 18 (dk_at dksX5_factor_0 9 rfl rfl)
theorem dX5_factor_12 : decode cX5_factor 12 = .ok (.ifCond .eq 16, 3) := dk_153 0 16 (dk_at dksX5_factor_0 12 rfl rfl)
theorem dX5_factor_15 : decode cX5_factor 15 = .ok (.aload_n 0, 1) := dk_42 (dk_at dksX5_factor_0 15 rfl rfl)
theorem dX5_factor_16 : decode cX5_factor 16 = .ok (.getfield 7, 3) := dk_180 0 7 (dk_at dksX5_factor_0 16 rfl rfl)
theorem dX5_factor_19 : decode cX5_factor 19 = .ok (.iconst 3, 1) := dk_6 (dk_at dksX5_factor_0 19 rfl rfl)
theorem dX5_factor_20 : decode cX5_factor 20 = .ok (.iload_n 1, 1) := dk_27 (dk_at dksX5_factor_0 20 rfl rfl)
theorem dX5_factor_21 : decode cX5_factor 21 = .ok (.imul, 1) := dk_104 (dk_at dksX5_factor_0 21 rfl rfl)
theorem dX5_factor_22 : decode cX5_factor 22 = .ok (.iload_n 2, 1) := dk_28 (dk_at dksX5_factor_0 22 rfl rfl)
theorem dX5_factor_23 : decode cX5_factor 23 = .ok (.iadd, 1) := dk_96 (dk_at dksX5_factor_0 23 rfl rfl)
theorem dX5_factor_24 : decode cX5_factor 24 = .ok (.iaload, 1) := dk_46 (dk_at dksX5_factor_1 0 rfl rfl)
theorem dX5_factor_25 : decode cX5_factor 25 = .ok (.goto 4, 3) := dk_167 0 4 (dk_at dksX5_factor_1 1 rfl rfl)
theorem dX5_factor_28 : decode cX5_factor 28 = .ok (.iconst 0, 1) := dk_3 (dk_at dksX5_factor_1 4 rfl rfl)
theorem dX5_factor_29 : decode cX5_factor 29 = .ok (.ireturn, 1) := dk_172 (dk_at dksX5_factor_1 5 rfl rfl)
abbrev cX5_step : ByteArray := prog_14_method_32_code
def yX5_step : MethodName := ⟨RX5, "step", "(IIIII)I"⟩
def dkwX5_step_9 : List UInt8 := [16, 8, 46, 4, 100, 172]
abbrev dktX5_step_9 : List UInt8 := dkwX5_step_9 ++ []
def dkwX5_step_8 : List UInt8 := [42, 180, 0, 50, 21, 8, 21, 5, 79, 42, 180, 0, 35, 16, 8, 92, 46, 4, 96, 79, 42, 180, 0, 35]
abbrev dktX5_step_8 : List UInt8 := dkwX5_step_8 ++ dktX5_step_9
def dkwX5_step_7 : List UInt8 := [180, 0, 41, 21, 8, 28, 79, 42, 180, 0, 44, 21, 8, 29, 79, 42, 180, 0, 47, 21, 8, 21, 4, 79]
abbrev dktX5_step_7 : List UInt8 := dkwX5_step_7 ++ dktX5_step_8
def dkwX5_step_6 : List UInt8 := [172, 16, 96, 42, 180, 0, 35, 16, 8, 46, 96, 54, 8, 42, 180, 0, 38, 21, 8, 27, 79, 42]
abbrev dktX5_step_6 : List UInt8 := dkwX5_step_6 ++ dktX5_step_7
def dkwX5_step_5 : List UInt8 := [42, 180, 0, 35, 16, 8, 46, 16, 12, 162, 0, 7, 4, 167, 0, 4, 3, 182, 1, 18, 154, 0, 5, 3]
abbrev dktX5_step_5 : List UInt8 := dkwX5_step_5 ++ dktX5_step_6
def dkwX5_step_4 : List UInt8 := [184, 1, 41, 153, 0, 15, 21, 5, 184, 1, 41, 153, 0, 7, 4, 167, 0, 4, 3, 54, 7, 42, 21, 7]
abbrev dktX5_step_4 : List UInt8 := dkwX5_step_4 ++ dktX5_step_5
def dkwX5_step_3 : List UInt8 := [29, 154, 0, 7, 4, 167, 0, 4, 3, 54, 7, 21, 7, 153, 0, 28, 27, 8, 162, 0, 19, 21, 4]
abbrev dktX5_step_3 : List UInt8 := dkwX5_step_3 ++ dktX5_step_4
def dkwX5_step_2 : List UInt8 := [21, 6, 184, 0, 228, 153, 0, 27, 27, 154, 0, 15, 29, 4, 6, 184, 0, 228, 153, 0, 14, 167, 0, 7]
abbrev dktX5_step_2 : List UInt8 := dkwX5_step_2 ++ dktX5_step_3
def dkwX5_step_1 : List UInt8 := [7, 160, 0, 8, 16, 6, 167, 0, 4, 3, 54, 6, 27, 3, 16, 6, 184, 0, 228, 153, 0, 37, 28, 3]
abbrev dktX5_step_1 : List UInt8 := dkwX5_step_1 ++ dktX5_step_2
def dkwX5_step_0 : List UInt8 := [27, 153, 0, 8, 27, 6, 160, 0, 7, 5, 167, 0, 24, 27, 5, 160, 0, 8, 16, 20, 167, 0, 14, 27]
abbrev dktX5_step_0 : List UInt8 := dkwX5_step_0 ++ dktX5_step_1
theorem dksX5_step_0 : cX5_step.data.toList.drop 0 = dktX5_step_0 := by decide +kernel
theorem dksX5_step_1 : cX5_step.data.toList.drop 24 = dktX5_step_1 := dk_seg dksX5_step_0 24 rfl rfl
theorem dksX5_step_2 : cX5_step.data.toList.drop 48 = dktX5_step_2 := dk_seg dksX5_step_1 24 rfl rfl
theorem dksX5_step_3 : cX5_step.data.toList.drop 72 = dktX5_step_3 := dk_seg dksX5_step_2 24 rfl rfl
theorem dksX5_step_4 : cX5_step.data.toList.drop 95 = dktX5_step_4 := dk_seg dksX5_step_3 23 rfl rfl
theorem dksX5_step_5 : cX5_step.data.toList.drop 119 = dktX5_step_5 := dk_seg dksX5_step_4 24 rfl rfl
theorem dksX5_step_6 : cX5_step.data.toList.drop 143 = dktX5_step_6 := dk_seg dksX5_step_5 24 rfl rfl
theorem dksX5_step_7 : cX5_step.data.toList.drop 165 = dktX5_step_7 := dk_seg dksX5_step_6 22 rfl rfl
theorem dksX5_step_8 : cX5_step.data.toList.drop 189 = dktX5_step_8 := dk_seg dksX5_step_7 24 rfl rfl
theorem dksX5_step_9 : cX5_step.data.toList.drop 213 = dktX5_step_9 := dk_seg dksX5_step_8 24 rfl rfl
theorem dX5_step_0 : decode cX5_step 0 = .ok (.iload_n 1, 1) := dk_27 (dk_at dksX5_step_0 0 rfl rfl)
theorem dX5_step_1 : decode cX5_step 1 = .ok (.ifCond .eq 8, 3) := dk_153 0 8 (dk_at dksX5_step_0 1 rfl rfl)
theorem dX5_step_4 : decode cX5_step 4 = .ok (.iload_n 1, 1) := dk_27 (dk_at dksX5_step_0 4 rfl rfl)
theorem dX5_step_5 : decode cX5_step 5 = .ok (.iconst 3, 1) := dk_6 (dk_at dksX5_step_0 5 rfl rfl)
theorem dX5_step_6 : decode cX5_step 6 = .ok (.if_icmp .ne 7, 3) := dk_160 0 7 (dk_at dksX5_step_0 6 rfl rfl)
theorem dX5_step_9 : decode cX5_step 9 = .ok (.iconst 2, 1) := dk_5 (dk_at dksX5_step_0 9 rfl rfl)
theorem dX5_step_10 : decode cX5_step 10 = .ok (.goto 24, 3) := dk_167 0 24 (dk_at dksX5_step_0 10 rfl rfl)
theorem dX5_step_13 : decode cX5_step 13 = .ok (.iload_n 1, 1) := dk_27 (dk_at dksX5_step_0 13 rfl rfl)
theorem dX5_step_14 : decode cX5_step 14 = .ok (.iconst 2, 1) := dk_5 (dk_at dksX5_step_0 14 rfl rfl)
theorem dX5_step_15 : decode cX5_step 15 = .ok (.if_icmp .ne 8, 3) := dk_160 0 8 (dk_at dksX5_step_0 15 rfl rfl)
theorem dX5_step_18 : decode cX5_step 18 = .ok (.bipush 20, 2) := dk_16 20 (dk_at dksX5_step_0 18 rfl rfl)
theorem dX5_step_20 : decode cX5_step 20 = .ok (.goto 14, 3) := dk_167 0 14 (dk_at dksX5_step_0 20 rfl rfl)
theorem dX5_step_23 : decode cX5_step 23 = .ok (.iload_n 1, 1) := dk_27 (dk_at dksX5_step_0 23 rfl rfl)
theorem dX5_step_24 : decode cX5_step 24 = .ok (.iconst 4, 1) := dk_7 (dk_at dksX5_step_1 0 rfl rfl)
theorem dX5_step_25 : decode cX5_step 25 = .ok (.if_icmp .ne 8, 3) := dk_160 0 8 (dk_at dksX5_step_1 1 rfl rfl)
theorem dX5_step_28 : decode cX5_step 28 = .ok (.bipush 6, 2) := dk_16 6 (dk_at dksX5_step_1 4 rfl rfl)
theorem dX5_step_30 : decode cX5_step 30 = .ok (.goto 4, 3) := dk_167 0 4 (dk_at dksX5_step_1 6 rfl rfl)
theorem dX5_step_33 : decode cX5_step 33 = .ok (.iconst 0, 1) := dk_3 (dk_at dksX5_step_1 9 rfl rfl)
theorem dX5_step_34 : decode cX5_step 34 = .ok (.istore 6, 2) := dk_54 6 (dk_at dksX5_step_1 10 rfl rfl)
theorem dX5_step_36 : decode cX5_step 36 = .ok (.iload_n 1, 1) := dk_27 (dk_at dksX5_step_1 12 rfl rfl)
theorem dX5_step_37 : decode cX5_step 37 = .ok (.iconst 0, 1) := dk_3 (dk_at dksX5_step_1 13 rfl rfl)
theorem dX5_step_38 : decode cX5_step 38 = .ok (.bipush 6, 2) := dk_16 6 (dk_at dksX5_step_1 14 rfl rfl)
theorem dX5_step_40 : decode cX5_step 40 = .ok (.invokestatic 228, 3) := dk_184 0 228 (dk_at dksX5_step_1 16 rfl rfl)
theorem dX5_step_43 : decode cX5_step 43 = .ok (.ifCond .eq 37, 3) := dk_153 0 37 (dk_at dksX5_step_1 19 rfl rfl)
theorem dX5_step_46 : decode cX5_step 46 = .ok (.iload_n 2, 1) := dk_28 (dk_at dksX5_step_1 22 rfl rfl)
theorem dX5_step_47 : decode cX5_step 47 = .ok (.iconst 0, 1) := dk_3 (dk_at dksX5_step_1 23 rfl rfl)
theorem dX5_step_48 : decode cX5_step 48 = .ok (.iload 6, 2) := dk_21 6 (dk_at dksX5_step_2 0 rfl rfl)
theorem dX5_step_50 : decode cX5_step 50 = .ok (.invokestatic 228, 3) := dk_184 0 228 (dk_at dksX5_step_2 2 rfl rfl)
theorem dX5_step_53 : decode cX5_step 53 = .ok (.ifCond .eq 27, 3) := dk_153 0 27 (dk_at dksX5_step_2 5 rfl rfl)
theorem dX5_step_56 : decode cX5_step 56 = .ok (.iload_n 1, 1) := dk_27 (dk_at dksX5_step_2 8 rfl rfl)
theorem dX5_step_57 : decode cX5_step 57 = .ok (.ifCond .ne 15, 3) := dk_154 0 15 (dk_at dksX5_step_2 9 rfl rfl)
theorem dX5_step_60 : decode cX5_step 60 = .ok (.iload_n 3, 1) := dk_29 (dk_at dksX5_step_2 12 rfl rfl)
theorem dX5_step_61 : decode cX5_step 61 = .ok (.iconst 1, 1) := dk_4 (dk_at dksX5_step_2 13 rfl rfl)
theorem dX5_step_62 : decode cX5_step 62 = .ok (.iconst 3, 1) := dk_6 (dk_at dksX5_step_2 14 rfl rfl)
theorem dX5_step_63 : decode cX5_step 63 = .ok (.invokestatic 228, 3) := dk_184 0 228 (dk_at dksX5_step_2 15 rfl rfl)
theorem dX5_step_66 : decode cX5_step 66 = .ok (.ifCond .eq 14, 3) := dk_153 0 14 (dk_at dksX5_step_2 18 rfl rfl)
theorem dX5_step_69 : decode cX5_step 69 = .ok (.goto 7, 3) := dk_167 0 7 (dk_at dksX5_step_2 21 rfl rfl)
theorem dX5_step_72 : decode cX5_step 72 = .ok (.iload_n 3, 1) := dk_29 (dk_at dksX5_step_3 0 rfl rfl)
theorem dX5_step_73 : decode cX5_step 73 = .ok (.ifCond .ne 7, 3) := dk_154 0 7 (dk_at dksX5_step_3 1 rfl rfl)
theorem dX5_step_76 : decode cX5_step 76 = .ok (.iconst 1, 1) := dk_4 (dk_at dksX5_step_3 4 rfl rfl)
theorem dX5_step_77 : decode cX5_step 77 = .ok (.goto 4, 3) := dk_167 0 4 (dk_at dksX5_step_3 5 rfl rfl)
theorem dX5_step_80 : decode cX5_step 80 = .ok (.iconst 0, 1) := dk_3 (dk_at dksX5_step_3 8 rfl rfl)
theorem dX5_step_81 : decode cX5_step 81 = .ok (.istore 7, 2) := dk_54 7 (dk_at dksX5_step_3 9 rfl rfl)
theorem dX5_step_83 : decode cX5_step 83 = .ok (.iload 7, 2) := dk_21 7 (dk_at dksX5_step_3 11 rfl rfl)
theorem dX5_step_85 : decode cX5_step 85 = .ok (.ifCond .eq 28, 3) := dk_153 0 28 (dk_at dksX5_step_3 13 rfl rfl)
theorem dX5_step_88 : decode cX5_step 88 = .ok (.iload_n 1, 1) := dk_27 (dk_at dksX5_step_3 16 rfl rfl)
theorem dX5_step_89 : decode cX5_step 89 = .ok (.iconst 5, 1) := dk_8 (dk_at dksX5_step_3 17 rfl rfl)
theorem dX5_step_90 : decode cX5_step 90 = .ok (.if_icmp .ge 19, 3) := dk_162 0 19 (dk_at dksX5_step_3 18 rfl rfl)
theorem dX5_step_93 : decode cX5_step 93 = .ok (.iload 4, 2) := dk_21 4 (dk_at dksX5_step_3 21 rfl rfl)
theorem dX5_step_95 : decode cX5_step 95 = .ok (.invokestatic 297, 3) := dk_184 1 41 (dk_at dksX5_step_4 0 rfl rfl)
theorem dX5_step_98 : decode cX5_step 98 = .ok (.ifCond .eq 15, 3) := dk_153 0 15 (dk_at dksX5_step_4 3 rfl rfl)
theorem dX5_step_101 : decode cX5_step 101 = .ok (.iload 5, 2) := dk_21 5 (dk_at dksX5_step_4 6 rfl rfl)
theorem dX5_step_103 : decode cX5_step 103 = .ok (.invokestatic 297, 3) := dk_184 1 41 (dk_at dksX5_step_4 8 rfl rfl)
theorem dX5_step_106 : decode cX5_step 106 = .ok (.ifCond .eq 7, 3) := dk_153 0 7 (dk_at dksX5_step_4 11 rfl rfl)
theorem dX5_step_109 : decode cX5_step 109 = .ok (.iconst 1, 1) := dk_4 (dk_at dksX5_step_4 14 rfl rfl)
theorem dX5_step_110 : decode cX5_step 110 = .ok (.goto 4, 3) := dk_167 0 4 (dk_at dksX5_step_4 15 rfl rfl)
theorem dX5_step_113 : decode cX5_step 113 = .ok (.iconst 0, 1) := dk_3 (dk_at dksX5_step_4 18 rfl rfl)
theorem dX5_step_114 : decode cX5_step 114 = .ok (.istore 7, 2) := dk_54 7 (dk_at dksX5_step_4 19 rfl rfl)
theorem dX5_step_116 : decode cX5_step 116 = .ok (.aload_n 0, 1) := dk_42 (dk_at dksX5_step_4 21 rfl rfl)
theorem dX5_step_117 : decode cX5_step 117 = .ok (.iload 7, 2) := dk_21 7 (dk_at dksX5_step_4 22 rfl rfl)
theorem dX5_step_119 : decode cX5_step 119 = .ok (.aload_n 0, 1) := dk_42 (dk_at dksX5_step_5 0 rfl rfl)
theorem dX5_step_120 : decode cX5_step 120 = .ok (.getfield 35, 3) := dk_180 0 35 (dk_at dksX5_step_5 1 rfl rfl)
theorem dX5_step_123 : decode cX5_step 123 = .ok (.bipush 8, 2) := dk_16 8 (dk_at dksX5_step_5 4 rfl rfl)
theorem dX5_step_125 : decode cX5_step 125 = .ok (.iaload, 1) := dk_46 (dk_at dksX5_step_5 6 rfl rfl)
theorem dX5_step_126 : decode cX5_step 126 = .ok (.bipush 12, 2) := dk_16 12 (dk_at dksX5_step_5 7 rfl rfl)
theorem dX5_step_128 : decode cX5_step 128 = .ok (.if_icmp .ge 7, 3) := dk_162 0 7 (dk_at dksX5_step_5 9 rfl rfl)
theorem dX5_step_131 : decode cX5_step 131 = .ok (.iconst 1, 1) := dk_4 (dk_at dksX5_step_5 12 rfl rfl)
theorem dX5_step_132 : decode cX5_step 132 = .ok (.goto 4, 3) := dk_167 0 4 (dk_at dksX5_step_5 13 rfl rfl)
theorem dX5_step_135 : decode cX5_step 135 = .ok (.iconst 0, 1) := dk_3 (dk_at dksX5_step_5 16 rfl rfl)
theorem dX5_step_136 : decode cX5_step 136 = .ok (.invokevirtual 274, 3) := dk_182 1 18 (dk_at dksX5_step_5 17 rfl rfl)
theorem dX5_step_139 : decode cX5_step 139 = .ok (.ifCond .ne 5, 3) := dk_154 0 5 (dk_at dksX5_step_5 20 rfl rfl)
theorem dX5_step_142 : decode cX5_step 142 = .ok (.iconst 0, 1) := dk_3 (dk_at dksX5_step_5 23 rfl rfl)
theorem dX5_step_143 : decode cX5_step 143 = .ok (.ireturn, 1) := dk_172 (dk_at dksX5_step_6 0 rfl rfl)
theorem dX5_step_144 : decode cX5_step 144 = .ok (.bipush 96, 2) := dk_16 96 (dk_at dksX5_step_6 1 rfl rfl)
theorem dX5_step_146 : decode cX5_step 146 = .ok (.aload_n 0, 1) := dk_42 (dk_at dksX5_step_6 3 rfl rfl)
theorem dX5_step_147 : decode cX5_step 147 = .ok (.getfield 35, 3) := dk_180 0 35 (dk_at dksX5_step_6 4 rfl rfl)
theorem dX5_step_150 : decode cX5_step 150 = .ok (.bipush 8, 2) := dk_16 8 (dk_at dksX5_step_6 7 rfl rfl)
theorem dX5_step_152 : decode cX5_step 152 = .ok (.iaload, 1) := dk_46 (dk_at dksX5_step_6 9 rfl rfl)
theorem dX5_step_153 : decode cX5_step 153 = .ok (.iadd, 1) := dk_96 (dk_at dksX5_step_6 10 rfl rfl)
theorem dX5_step_154 : decode cX5_step 154 = .ok (.istore 8, 2) := dk_54 8 (dk_at dksX5_step_6 11 rfl rfl)
theorem dX5_step_156 : decode cX5_step 156 = .ok (.aload_n 0, 1) := dk_42 (dk_at dksX5_step_6 13 rfl rfl)
theorem dX5_step_157 : decode cX5_step 157 = .ok (.getfield 38, 3) := dk_180 0 38 (dk_at dksX5_step_6 14 rfl rfl)
theorem dX5_step_160 : decode cX5_step 160 = .ok (.iload 8, 2) := dk_21 8 (dk_at dksX5_step_6 17 rfl rfl)
theorem dX5_step_162 : decode cX5_step 162 = .ok (.iload_n 1, 1) := dk_27 (dk_at dksX5_step_6 19 rfl rfl)
theorem dX5_step_163 : decode cX5_step 163 = .ok (.iastore, 1) := dk_79 (dk_at dksX5_step_6 20 rfl rfl)
theorem dX5_step_164 : decode cX5_step 164 = .ok (.aload_n 0, 1) := dk_42 (dk_at dksX5_step_6 21 rfl rfl)
theorem dX5_step_165 : decode cX5_step 165 = .ok (.getfield 41, 3) := dk_180 0 41 (dk_at dksX5_step_7 0 rfl rfl)
theorem dX5_step_168 : decode cX5_step 168 = .ok (.iload 8, 2) := dk_21 8 (dk_at dksX5_step_7 3 rfl rfl)
theorem dX5_step_170 : decode cX5_step 170 = .ok (.iload_n 2, 1) := dk_28 (dk_at dksX5_step_7 5 rfl rfl)
theorem dX5_step_171 : decode cX5_step 171 = .ok (.iastore, 1) := dk_79 (dk_at dksX5_step_7 6 rfl rfl)
theorem dX5_step_172 : decode cX5_step 172 = .ok (.aload_n 0, 1) := dk_42 (dk_at dksX5_step_7 7 rfl rfl)
theorem dX5_step_173 : decode cX5_step 173 = .ok (.getfield 44, 3) := dk_180 0 44 (dk_at dksX5_step_7 8 rfl rfl)
theorem dX5_step_176 : decode cX5_step 176 = .ok (.iload 8, 2) := dk_21 8 (dk_at dksX5_step_7 11 rfl rfl)
theorem dX5_step_178 : decode cX5_step 178 = .ok (.iload_n 3, 1) := dk_29 (dk_at dksX5_step_7 13 rfl rfl)
theorem dX5_step_179 : decode cX5_step 179 = .ok (.iastore, 1) := dk_79 (dk_at dksX5_step_7 14 rfl rfl)
theorem dX5_step_180 : decode cX5_step 180 = .ok (.aload_n 0, 1) := dk_42 (dk_at dksX5_step_7 15 rfl rfl)
theorem dX5_step_181 : decode cX5_step 181 = .ok (.getfield 47, 3) := dk_180 0 47 (dk_at dksX5_step_7 16 rfl rfl)
theorem dX5_step_184 : decode cX5_step 184 = .ok (.iload 8, 2) := dk_21 8 (dk_at dksX5_step_7 19 rfl rfl)
theorem dX5_step_186 : decode cX5_step 186 = .ok (.iload 4, 2) := dk_21 4 (dk_at dksX5_step_7 21 rfl rfl)
theorem dX5_step_188 : decode cX5_step 188 = .ok (.iastore, 1) := dk_79 (dk_at dksX5_step_7 23 rfl rfl)
theorem dX5_step_189 : decode cX5_step 189 = .ok (.aload_n 0, 1) := dk_42 (dk_at dksX5_step_8 0 rfl rfl)
theorem dX5_step_190 : decode cX5_step 190 = .ok (.getfield 50, 3) := dk_180 0 50 (dk_at dksX5_step_8 1 rfl rfl)
theorem dX5_step_193 : decode cX5_step 193 = .ok (.iload 8, 2) := dk_21 8 (dk_at dksX5_step_8 4 rfl rfl)
theorem dX5_step_195 : decode cX5_step 195 = .ok (.iload 5, 2) := dk_21 5 (dk_at dksX5_step_8 6 rfl rfl)
theorem dX5_step_197 : decode cX5_step 197 = .ok (.iastore, 1) := dk_79 (dk_at dksX5_step_8 8 rfl rfl)
theorem dX5_step_198 : decode cX5_step 198 = .ok (.aload_n 0, 1) := dk_42 (dk_at dksX5_step_8 9 rfl rfl)
theorem dX5_step_199 : decode cX5_step 199 = .ok (.getfield 35, 3) := dk_180 0 35 (dk_at dksX5_step_8 10 rfl rfl)
theorem dX5_step_202 : decode cX5_step 202 = .ok (.bipush 8, 2) := dk_16 8 (dk_at dksX5_step_8 13 rfl rfl)
theorem dX5_step_204 : decode cX5_step 204 = .ok (.dup2, 1) := dk_92 (dk_at dksX5_step_8 15 rfl rfl)
theorem dX5_step_205 : decode cX5_step 205 = .ok (.iaload, 1) := dk_46 (dk_at dksX5_step_8 16 rfl rfl)
theorem dX5_step_206 : decode cX5_step 206 = .ok (.iconst 1, 1) := dk_4 (dk_at dksX5_step_8 17 rfl rfl)
theorem dX5_step_207 : decode cX5_step 207 = .ok (.iadd, 1) := dk_96 (dk_at dksX5_step_8 18 rfl rfl)
theorem dX5_step_208 : decode cX5_step 208 = .ok (.iastore, 1) := dk_79 (dk_at dksX5_step_8 19 rfl rfl)
theorem dX5_step_209 : decode cX5_step 209 = .ok (.aload_n 0, 1) := dk_42 (dk_at dksX5_step_8 20 rfl rfl)
theorem dX5_step_210 : decode cX5_step 210 = .ok (.getfield 35, 3) := dk_180 0 35 (dk_at dksX5_step_8 21 rfl rfl)
theorem dX5_step_213 : decode cX5_step 213 = .ok (.bipush 8, 2) := dk_16 8 (dk_at dksX5_step_9 0 rfl rfl)
theorem dX5_step_215 : decode cX5_step 215 = .ok (.iaload, 1) := dk_46 (dk_at dksX5_step_9 2 rfl rfl)
theorem dX5_step_216 : decode cX5_step 216 = .ok (.iconst 1, 1) := dk_4 (dk_at dksX5_step_9 3 rfl rfl)
theorem dX5_step_217 : decode cX5_step 217 = .ok (.isub, 1) := dk_100 (dk_at dksX5_step_9 4 rfl rfl)
theorem dX5_step_218 : decode cX5_step 218 = .ok (.ireturn, 1) := dk_172 (dk_at dksX5_step_9 5 rfl rfl)
abbrev cX5_isNext : ByteArray := prog_14_method_31_code
def yX5_isNext : MethodName := ⟨RX5, "isNext", "(I)Z"⟩
def dkwX5_isNext_0 : List UInt8 := [26, 2, 16, 11, 184, 0, 228, 172]
abbrev dktX5_isNext_0 : List UInt8 := dkwX5_isNext_0 ++ []
theorem dksX5_isNext_0 : cX5_isNext.data.toList.drop 0 = dktX5_isNext_0 := by decide +kernel
theorem dX5_isNext_0 : decode cX5_isNext 0 = .ok (.iload_n 0, 1) := dk_26 (dk_at dksX5_isNext_0 0 rfl rfl)
theorem dX5_isNext_1 : decode cX5_isNext 1 = .ok (.iconst (-1), 1) := dk_2 (dk_at dksX5_isNext_0 1 rfl rfl)
theorem dX5_isNext_2 : decode cX5_isNext 2 = .ok (.bipush 11, 2) := dk_16 11 (dk_at dksX5_isNext_0 2 rfl rfl)
theorem dX5_isNext_4 : decode cX5_isNext 4 = .ok (.invokestatic 228, 3) := dk_184 0 228 (dk_at dksX5_isNext_0 4 rfl rfl)
theorem dX5_isNext_7 : decode cX5_isNext 7 = .ok (.ireturn, 1) := dk_172 (dk_at dksX5_isNext_0 7 rfl rfl)
abbrev cX5_clear : ByteArray := prog_14_method_33_code
def yX5_clear : MethodName := ⟨RX5, "clear", "()I"⟩
def dkwX5_clear_0 : List UInt8 := [42, 3, 181, 0, 225, 42, 180, 0, 35, 16, 8, 46, 60, 42, 180, 0, 35, 16, 8, 3, 79, 27, 172]
abbrev dktX5_clear_0 : List UInt8 := dkwX5_clear_0 ++ []
theorem dksX5_clear_0 : cX5_clear.data.toList.drop 0 = dktX5_clear_0 := by decide +kernel
theorem dX5_clear_0 : decode cX5_clear 0 = .ok (.aload_n 0, 1) := dk_42 (dk_at dksX5_clear_0 0 rfl rfl)
theorem dX5_clear_1 : decode cX5_clear 1 = .ok (.iconst 0, 1) := dk_3 (dk_at dksX5_clear_0 1 rfl rfl)
theorem dX5_clear_2 : decode cX5_clear 2 = .ok (.putfield 225, 3) := dk_181 0 225 (dk_at dksX5_clear_0 2 rfl rfl)
theorem dX5_clear_5 : decode cX5_clear 5 = .ok (.aload_n 0, 1) := dk_42 (dk_at dksX5_clear_0 5 rfl rfl)
theorem dX5_clear_6 : decode cX5_clear 6 = .ok (.getfield 35, 3) := dk_180 0 35 (dk_at dksX5_clear_0 6 rfl rfl)
theorem dX5_clear_9 : decode cX5_clear 9 = .ok (.bipush 8, 2) := dk_16 8 (dk_at dksX5_clear_0 9 rfl rfl)
theorem dX5_clear_11 : decode cX5_clear 11 = .ok (.iaload, 1) := dk_46 (dk_at dksX5_clear_0 11 rfl rfl)
theorem dX5_clear_12 : decode cX5_clear 12 = .ok (.istore_n 1, 1) := dk_60 (dk_at dksX5_clear_0 12 rfl rfl)
theorem dX5_clear_13 : decode cX5_clear 13 = .ok (.aload_n 0, 1) := dk_42 (dk_at dksX5_clear_0 13 rfl rfl)
theorem dX5_clear_14 : decode cX5_clear 14 = .ok (.getfield 35, 3) := dk_180 0 35 (dk_at dksX5_clear_0 14 rfl rfl)
theorem dX5_clear_17 : decode cX5_clear 17 = .ok (.bipush 8, 2) := dk_16 8 (dk_at dksX5_clear_0 17 rfl rfl)
theorem dX5_clear_19 : decode cX5_clear 19 = .ok (.iconst 0, 1) := dk_3 (dk_at dksX5_clear_0 19 rfl rfl)
theorem dX5_clear_20 : decode cX5_clear 20 = .ok (.iastore, 1) := dk_79 (dk_at dksX5_clear_0 20 rfl rfl)
theorem dX5_clear_21 : decode cX5_clear 21 = .ok (.iload_n 1, 1) := dk_27 (dk_at dksX5_clear_0 21 rfl rfl)
theorem dX5_clear_22 : decode cX5_clear 22 = .ok (.ireturn, 1) := dk_172 (dk_at dksX5_clear_0 22 rfl rfl)
abbrev cX5_publish : ByteArray := prog_14_method_36_code
def yX5_publish : MethodName := ⟨RX5, "publish", "()I"⟩
def dkwX5_publish_12 : List UInt8 := [180, 0, 35, 16, 8, 3, 79, 42, 89, 180, 1, 47, 4, 96, 181, 1, 47, 42, 180, 1, 47, 4, 100, 172]
abbrev dktX5_publish_12 : List UInt8 := dkwX5_publish_12 ++ []
def dkwX5_publish_11 : List UInt8 := [132, 2, 1, 167, 255, 157, 42, 180, 0, 35, 42, 180, 1, 47, 42, 180, 0, 35, 16, 8, 46, 79, 42]
abbrev dktX5_publish_11 : List UInt8 := dkwX5_publish_11 ++ dktX5_publish_12
def dkwX5_publish_10 : List UInt8 := [180, 0, 47, 16, 96, 28, 96, 46, 79, 42, 180, 0, 50, 29, 42, 180, 0, 50, 16, 96, 28, 96, 46, 79]
abbrev dktX5_publish_10 : List UInt8 := dkwX5_publish_10 ++ dktX5_publish_11
def dkwX5_publish_9 : List UInt8 := [46, 79, 42, 180, 0, 44, 29, 42, 180, 0, 44, 16, 96, 28, 96, 46, 79, 42, 180, 0, 47, 29, 42]
abbrev dktX5_publish_9 : List UInt8 := dkwX5_publish_9 ++ dktX5_publish_10
def dkwX5_publish_8 : List UInt8 := [29, 42, 180, 0, 38, 16, 96, 28, 96, 46, 79, 42, 180, 0, 41, 29, 42, 180, 0, 41, 16, 96, 28, 96]
abbrev dktX5_publish_8 : List UInt8 := dkwX5_publish_8 ++ dktX5_publish_9
def dkwX5_publish_7 : List UInt8 := [42, 180, 0, 35, 16, 8, 46, 162, 0, 94, 16, 12, 42, 180, 1, 47, 104, 28, 96, 62, 42, 180, 0, 38]
abbrev dktX5_publish_7 : List UInt8 := dkwX5_publish_7 ++ dktX5_publish_8
def dkwX5_publish_6 : List UInt8 := [167, 0, 4, 3, 60, 132, 2, 1, 167, 255, 209, 42, 27, 182, 0, 251, 154, 0, 5, 3, 172, 3, 61, 28]
abbrev dktX5_publish_6 : List UInt8 := dkwX5_publish_6 ++ dktX5_publish_7
def dkwX5_publish_5 : List UInt8 := [42, 180, 0, 38, 16, 96, 28, 96, 46, 184, 1, 44, 153, 0, 11, 42, 28, 182, 1, 50, 154, 0, 7, 4]
abbrev dktX5_publish_5 : List UInt8 := dkwX5_publish_5 ++ dktX5_publish_6
def dkwX5_publish_4 : List UInt8 := [60, 132, 2, 1, 167, 255, 185, 3, 61, 28, 42, 180, 0, 35, 16, 8, 46, 162, 0, 42, 27, 153, 0, 38]
abbrev dktX5_publish_4 : List UInt8 := dkwX5_publish_4 ++ dktX5_publish_5
def dkwX5_publish_3 : List UInt8 := [162, 0, 23, 42, 180, 0, 50, 29, 46, 42, 180, 0, 35, 16, 8, 46, 162, 0, 7, 4, 167, 0, 4, 3]
abbrev dktX5_publish_3 : List UInt8 := dkwX5_publish_3 ++ dktX5_publish_4
def dkwX5_publish_2 : List UInt8 := [180, 0, 38, 29, 46, 8, 162, 0, 35, 42, 180, 0, 47, 29, 46, 42, 180, 0, 35, 16, 8, 46]
abbrev dktX5_publish_2 : List UInt8 := dkwX5_publish_2 ++ dktX5_publish_3
def dkwX5_publish_1 : List UInt8 := [60, 3, 61, 28, 42, 180, 0, 35, 16, 8, 46, 162, 0, 66, 16, 96, 28, 96, 62, 27, 153, 0, 49, 42]
abbrev dktX5_publish_1 : List UInt8 := dkwX5_publish_1 ++ dktX5_publish_2
def dkwX5_publish_0 : List UInt8 := [42, 180, 0, 35, 16, 8, 46, 158, 0, 16, 42, 180, 1, 47, 16, 8, 162, 0, 7, 4, 167, 0, 4, 3]
abbrev dktX5_publish_0 : List UInt8 := dkwX5_publish_0 ++ dktX5_publish_1
theorem dksX5_publish_0 : cX5_publish.data.toList.drop 0 = dktX5_publish_0 := by decide +kernel
theorem dksX5_publish_1 : cX5_publish.data.toList.drop 24 = dktX5_publish_1 := dk_seg dksX5_publish_0 24 rfl rfl
theorem dksX5_publish_2 : cX5_publish.data.toList.drop 48 = dktX5_publish_2 := dk_seg dksX5_publish_1 24 rfl rfl
theorem dksX5_publish_3 : cX5_publish.data.toList.drop 70 = dktX5_publish_3 := dk_seg dksX5_publish_2 22 rfl rfl
theorem dksX5_publish_4 : cX5_publish.data.toList.drop 94 = dktX5_publish_4 := dk_seg dksX5_publish_3 24 rfl rfl
theorem dksX5_publish_5 : cX5_publish.data.toList.drop 118 = dktX5_publish_5 := dk_seg dksX5_publish_4 24 rfl rfl
theorem dksX5_publish_6 : cX5_publish.data.toList.drop 142 = dktX5_publish_6 := dk_seg dksX5_publish_5 24 rfl rfl
theorem dksX5_publish_7 : cX5_publish.data.toList.drop 166 = dktX5_publish_7 := dk_seg dksX5_publish_6 24 rfl rfl
theorem dksX5_publish_8 : cX5_publish.data.toList.drop 190 = dktX5_publish_8 := dk_seg dksX5_publish_7 24 rfl rfl
theorem dksX5_publish_9 : cX5_publish.data.toList.drop 214 = dktX5_publish_9 := dk_seg dksX5_publish_8 24 rfl rfl
theorem dksX5_publish_10 : cX5_publish.data.toList.drop 237 = dktX5_publish_10 := dk_seg dksX5_publish_9 23 rfl rfl
theorem dksX5_publish_11 : cX5_publish.data.toList.drop 261 = dktX5_publish_11 := dk_seg dksX5_publish_10 24 rfl rfl
theorem dksX5_publish_12 : cX5_publish.data.toList.drop 284 = dktX5_publish_12 := dk_seg dksX5_publish_11 23 rfl rfl
theorem dX5_publish_0 : decode cX5_publish 0 = .ok (.aload_n 0, 1) := dk_42 (dk_at dksX5_publish_0 0 rfl rfl)
theorem dX5_publish_1 : decode cX5_publish 1 = .ok (.getfield 35, 3) := dk_180 0 35 (dk_at dksX5_publish_0 1 rfl rfl)
theorem dX5_publish_4 : decode cX5_publish 4 = .ok (.bipush 8, 2) := dk_16 8 (dk_at dksX5_publish_0 4 rfl rfl)
theorem dX5_publish_6 : decode cX5_publish 6 = .ok (.iaload, 1) := dk_46 (dk_at dksX5_publish_0 6 rfl rfl)
theorem dX5_publish_7 : decode cX5_publish 7 = .ok (.ifCond .le 16, 3) := dk_158 0 16 (dk_at dksX5_publish_0 7 rfl rfl)
theorem dX5_publish_10 : decode cX5_publish 10 = .ok (.aload_n 0, 1) := dk_42 (dk_at dksX5_publish_0 10 rfl rfl)
theorem dX5_publish_11 : decode cX5_publish 11 = .ok (.getfield 303, 3) := dk_180 1 47 (dk_at dksX5_publish_0 11 rfl rfl)
theorem dX5_publish_14 : decode cX5_publish 14 = .ok (.bipush 8, 2) := dk_16 8 (dk_at dksX5_publish_0 14 rfl rfl)
theorem dX5_publish_16 : decode cX5_publish 16 = .ok (.if_icmp .ge 7, 3) := dk_162 0 7 (dk_at dksX5_publish_0 16 rfl rfl)
theorem dX5_publish_19 : decode cX5_publish 19 = .ok (.iconst 1, 1) := dk_4 (dk_at dksX5_publish_0 19 rfl rfl)
theorem dX5_publish_20 : decode cX5_publish 20 = .ok (.goto 4, 3) := dk_167 0 4 (dk_at dksX5_publish_0 20 rfl rfl)
theorem dX5_publish_23 : decode cX5_publish 23 = .ok (.iconst 0, 1) := dk_3 (dk_at dksX5_publish_0 23 rfl rfl)
theorem dX5_publish_24 : decode cX5_publish 24 = .ok (.istore_n 1, 1) := dk_60 (dk_at dksX5_publish_1 0 rfl rfl)
theorem dX5_publish_25 : decode cX5_publish 25 = .ok (.iconst 0, 1) := dk_3 (dk_at dksX5_publish_1 1 rfl rfl)
theorem dX5_publish_26 : decode cX5_publish 26 = .ok (.istore_n 2, 1) := dk_61 (dk_at dksX5_publish_1 2 rfl rfl)
theorem dX5_publish_27 : decode cX5_publish 27 = .ok (.iload_n 2, 1) := dk_28 (dk_at dksX5_publish_1 3 rfl rfl)
theorem dX5_publish_28 : decode cX5_publish 28 = .ok (.aload_n 0, 1) := dk_42 (dk_at dksX5_publish_1 4 rfl rfl)
theorem dX5_publish_29 : decode cX5_publish 29 = .ok (.getfield 35, 3) := dk_180 0 35 (dk_at dksX5_publish_1 5 rfl rfl)
theorem dX5_publish_32 : decode cX5_publish 32 = .ok (.bipush 8, 2) := dk_16 8 (dk_at dksX5_publish_1 8 rfl rfl)
theorem dX5_publish_34 : decode cX5_publish 34 = .ok (.iaload, 1) := dk_46 (dk_at dksX5_publish_1 10 rfl rfl)
theorem dX5_publish_35 : decode cX5_publish 35 = .ok (.if_icmp .ge 66, 3) := dk_162 0 66 (dk_at dksX5_publish_1 11 rfl rfl)
theorem dX5_publish_38 : decode cX5_publish 38 = .ok (.bipush 96, 2) := dk_16 96 (dk_at dksX5_publish_1 14 rfl rfl)
theorem dX5_publish_40 : decode cX5_publish 40 = .ok (.iload_n 2, 1) := dk_28 (dk_at dksX5_publish_1 16 rfl rfl)
theorem dX5_publish_41 : decode cX5_publish 41 = .ok (.iadd, 1) := dk_96 (dk_at dksX5_publish_1 17 rfl rfl)
theorem dX5_publish_42 : decode cX5_publish 42 = .ok (.istore_n 3, 1) := dk_62 (dk_at dksX5_publish_1 18 rfl rfl)
theorem dX5_publish_43 : decode cX5_publish 43 = .ok (.iload_n 1, 1) := dk_27 (dk_at dksX5_publish_1 19 rfl rfl)
theorem dX5_publish_44 : decode cX5_publish 44 = .ok (.ifCond .eq 49, 3) := dk_153 0 49 (dk_at dksX5_publish_1 20 rfl rfl)
theorem dX5_publish_47 : decode cX5_publish 47 = .ok (.aload_n 0, 1) := dk_42 (dk_at dksX5_publish_1 23 rfl rfl)
theorem dX5_publish_48 : decode cX5_publish 48 = .ok (.getfield 38, 3) := dk_180 0 38 (dk_at dksX5_publish_2 0 rfl rfl)
theorem dX5_publish_51 : decode cX5_publish 51 = .ok (.iload_n 3, 1) := dk_29 (dk_at dksX5_publish_2 3 rfl rfl)
theorem dX5_publish_52 : decode cX5_publish 52 = .ok (.iaload, 1) := dk_46 (dk_at dksX5_publish_2 4 rfl rfl)
theorem dX5_publish_53 : decode cX5_publish 53 = .ok (.iconst 5, 1) := dk_8 (dk_at dksX5_publish_2 5 rfl rfl)
theorem dX5_publish_54 : decode cX5_publish 54 = .ok (.if_icmp .ge 35, 3) := dk_162 0 35 (dk_at dksX5_publish_2 6 rfl rfl)
theorem dX5_publish_57 : decode cX5_publish 57 = .ok (.aload_n 0, 1) := dk_42 (dk_at dksX5_publish_2 9 rfl rfl)
theorem dX5_publish_58 : decode cX5_publish 58 = .ok (.getfield 47, 3) := dk_180 0 47 (dk_at dksX5_publish_2 10 rfl rfl)
theorem dX5_publish_61 : decode cX5_publish 61 = .ok (.iload_n 3, 1) := dk_29 (dk_at dksX5_publish_2 13 rfl rfl)
theorem dX5_publish_62 : decode cX5_publish 62 = .ok (.iaload, 1) := dk_46 (dk_at dksX5_publish_2 14 rfl rfl)
theorem dX5_publish_63 : decode cX5_publish 63 = .ok (.aload_n 0, 1) := dk_42 (dk_at dksX5_publish_2 15 rfl rfl)
theorem dX5_publish_64 : decode cX5_publish 64 = .ok (.getfield 35, 3) := dk_180 0 35 (dk_at dksX5_publish_2 16 rfl rfl)
theorem dX5_publish_67 : decode cX5_publish 67 = .ok (.bipush 8, 2) := dk_16 8 (dk_at dksX5_publish_2 19 rfl rfl)
theorem dX5_publish_69 : decode cX5_publish 69 = .ok (.iaload, 1) := dk_46 (dk_at dksX5_publish_2 21 rfl rfl)
theorem dX5_publish_70 : decode cX5_publish 70 = .ok (.if_icmp .ge 23, 3) := dk_162 0 23 (dk_at dksX5_publish_3 0 rfl rfl)
theorem dX5_publish_73 : decode cX5_publish 73 = .ok (.aload_n 0, 1) := dk_42 (dk_at dksX5_publish_3 3 rfl rfl)
theorem dX5_publish_74 : decode cX5_publish 74 = .ok (.getfield 50, 3) := dk_180 0 50 (dk_at dksX5_publish_3 4 rfl rfl)
theorem dX5_publish_77 : decode cX5_publish 77 = .ok (.iload_n 3, 1) := dk_29 (dk_at dksX5_publish_3 7 rfl rfl)
theorem dX5_publish_78 : decode cX5_publish 78 = .ok (.iaload, 1) := dk_46 (dk_at dksX5_publish_3 8 rfl rfl)
theorem dX5_publish_79 : decode cX5_publish 79 = .ok (.aload_n 0, 1) := dk_42 (dk_at dksX5_publish_3 9 rfl rfl)
theorem dX5_publish_80 : decode cX5_publish 80 = .ok (.getfield 35, 3) := dk_180 0 35 (dk_at dksX5_publish_3 10 rfl rfl)
theorem dX5_publish_83 : decode cX5_publish 83 = .ok (.bipush 8, 2) := dk_16 8 (dk_at dksX5_publish_3 13 rfl rfl)
theorem dX5_publish_85 : decode cX5_publish 85 = .ok (.iaload, 1) := dk_46 (dk_at dksX5_publish_3 15 rfl rfl)
theorem dX5_publish_86 : decode cX5_publish 86 = .ok (.if_icmp .ge 7, 3) := dk_162 0 7 (dk_at dksX5_publish_3 16 rfl rfl)
theorem dX5_publish_89 : decode cX5_publish 89 = .ok (.iconst 1, 1) := dk_4 (dk_at dksX5_publish_3 19 rfl rfl)
theorem dX5_publish_90 : decode cX5_publish 90 = .ok (.goto 4, 3) := dk_167 0 4 (dk_at dksX5_publish_3 20 rfl rfl)
theorem dX5_publish_93 : decode cX5_publish 93 = .ok (.iconst 0, 1) := dk_3 (dk_at dksX5_publish_3 23 rfl rfl)
theorem dX5_publish_94 : decode cX5_publish 94 = .ok (.istore_n 1, 1) := dk_60 (dk_at dksX5_publish_4 0 rfl rfl)
theorem dX5_publish_95 : decode cX5_publish 95 = .ok (.iinc 2 1, 3) := dk_132 2 1 (dk_at dksX5_publish_4 1 rfl rfl)
theorem dX5_publish_98 : decode cX5_publish 98 = .ok (.goto (-71), 3) := dk_167 255 185 (dk_at dksX5_publish_4 4 rfl rfl)
theorem dX5_publish_101 : decode cX5_publish 101 = .ok (.iconst 0, 1) := dk_3 (dk_at dksX5_publish_4 7 rfl rfl)
theorem dX5_publish_102 : decode cX5_publish 102 = .ok (.istore_n 2, 1) := dk_61 (dk_at dksX5_publish_4 8 rfl rfl)
theorem dX5_publish_103 : decode cX5_publish 103 = .ok (.iload_n 2, 1) := dk_28 (dk_at dksX5_publish_4 9 rfl rfl)
theorem dX5_publish_104 : decode cX5_publish 104 = .ok (.aload_n 0, 1) := dk_42 (dk_at dksX5_publish_4 10 rfl rfl)
theorem dX5_publish_105 : decode cX5_publish 105 = .ok (.getfield 35, 3) := dk_180 0 35 (dk_at dksX5_publish_4 11 rfl rfl)
theorem dX5_publish_108 : decode cX5_publish 108 = .ok (.bipush 8, 2) := dk_16 8 (dk_at dksX5_publish_4 14 rfl rfl)
theorem dX5_publish_110 : decode cX5_publish 110 = .ok (.iaload, 1) := dk_46 (dk_at dksX5_publish_4 16 rfl rfl)
theorem dX5_publish_111 : decode cX5_publish 111 = .ok (.if_icmp .ge 42, 3) := dk_162 0 42 (dk_at dksX5_publish_4 17 rfl rfl)
theorem dX5_publish_114 : decode cX5_publish 114 = .ok (.iload_n 1, 1) := dk_27 (dk_at dksX5_publish_4 20 rfl rfl)
theorem dX5_publish_115 : decode cX5_publish 115 = .ok (.ifCond .eq 38, 3) := dk_153 0 38 (dk_at dksX5_publish_4 21 rfl rfl)
theorem dX5_publish_118 : decode cX5_publish 118 = .ok (.aload_n 0, 1) := dk_42 (dk_at dksX5_publish_5 0 rfl rfl)
theorem dX5_publish_119 : decode cX5_publish 119 = .ok (.getfield 38, 3) := dk_180 0 38 (dk_at dksX5_publish_5 1 rfl rfl)
theorem dX5_publish_122 : decode cX5_publish 122 = .ok (.bipush 96, 2) := dk_16 96 (dk_at dksX5_publish_5 4 rfl rfl)
theorem dX5_publish_124 : decode cX5_publish 124 = .ok (.iload_n 2, 1) := dk_28 (dk_at dksX5_publish_5 6 rfl rfl)
theorem dX5_publish_125 : decode cX5_publish 125 = .ok (.iadd, 1) := dk_96 (dk_at dksX5_publish_5 7 rfl rfl)
theorem dX5_publish_126 : decode cX5_publish 126 = .ok (.iaload, 1) := dk_46 (dk_at dksX5_publish_5 8 rfl rfl)
theorem dX5_publish_127 : decode cX5_publish 127 = .ok (.invokestatic 300, 3) := dk_184 1 44 (dk_at dksX5_publish_5 9 rfl rfl)
theorem dX5_publish_130 : decode cX5_publish 130 = .ok (.ifCond .eq 11, 3) := dk_153 0 11 (dk_at dksX5_publish_5 12 rfl rfl)
theorem dX5_publish_133 : decode cX5_publish 133 = .ok (.aload_n 0, 1) := dk_42 (dk_at dksX5_publish_5 15 rfl rfl)
theorem dX5_publish_134 : decode cX5_publish 134 = .ok (.iload_n 2, 1) := dk_28 (dk_at dksX5_publish_5 16 rfl rfl)
theorem dX5_publish_135 : decode cX5_publish 135 = .ok (.invokevirtual 306, 3) := dk_182 1 50 (dk_at dksX5_publish_5 17 rfl rfl)
theorem dX5_publish_138 : decode cX5_publish 138 = .ok (.ifCond .ne 7, 3) := dk_154 0 7 (dk_at dksX5_publish_5 20 rfl rfl)
theorem dX5_publish_141 : decode cX5_publish 141 = .ok (.iconst 1, 1) := dk_4 (dk_at dksX5_publish_5 23 rfl rfl)
theorem dX5_publish_142 : decode cX5_publish 142 = .ok (.goto 4, 3) := dk_167 0 4 (dk_at dksX5_publish_6 0 rfl rfl)
theorem dX5_publish_145 : decode cX5_publish 145 = .ok (.iconst 0, 1) := dk_3 (dk_at dksX5_publish_6 3 rfl rfl)
theorem dX5_publish_146 : decode cX5_publish 146 = .ok (.istore_n 1, 1) := dk_60 (dk_at dksX5_publish_6 4 rfl rfl)
theorem dX5_publish_147 : decode cX5_publish 147 = .ok (.iinc 2 1, 3) := dk_132 2 1 (dk_at dksX5_publish_6 5 rfl rfl)
theorem dX5_publish_150 : decode cX5_publish 150 = .ok (.goto (-47), 3) := dk_167 255 209 (dk_at dksX5_publish_6 8 rfl rfl)
theorem dX5_publish_153 : decode cX5_publish 153 = .ok (.aload_n 0, 1) := dk_42 (dk_at dksX5_publish_6 11 rfl rfl)
theorem dX5_publish_154 : decode cX5_publish 154 = .ok (.iload_n 1, 1) := dk_27 (dk_at dksX5_publish_6 12 rfl rfl)
theorem dX5_publish_155 : decode cX5_publish 155 = .ok (.invokevirtual 251, 3) := dk_182 0 251 (dk_at dksX5_publish_6 13 rfl rfl)
theorem dX5_publish_158 : decode cX5_publish 158 = .ok (.ifCond .ne 5, 3) := dk_154 0 5 (dk_at dksX5_publish_6 16 rfl rfl)
theorem dX5_publish_161 : decode cX5_publish 161 = .ok (.iconst 0, 1) := dk_3 (dk_at dksX5_publish_6 19 rfl rfl)
theorem dX5_publish_162 : decode cX5_publish 162 = .ok (.ireturn, 1) := dk_172 (dk_at dksX5_publish_6 20 rfl rfl)
theorem dX5_publish_163 : decode cX5_publish 163 = .ok (.iconst 0, 1) := dk_3 (dk_at dksX5_publish_6 21 rfl rfl)
theorem dX5_publish_164 : decode cX5_publish 164 = .ok (.istore_n 2, 1) := dk_61 (dk_at dksX5_publish_6 22 rfl rfl)
theorem dX5_publish_165 : decode cX5_publish 165 = .ok (.iload_n 2, 1) := dk_28 (dk_at dksX5_publish_6 23 rfl rfl)
theorem dX5_publish_166 : decode cX5_publish 166 = .ok (.aload_n 0, 1) := dk_42 (dk_at dksX5_publish_7 0 rfl rfl)
theorem dX5_publish_167 : decode cX5_publish 167 = .ok (.getfield 35, 3) := dk_180 0 35 (dk_at dksX5_publish_7 1 rfl rfl)
theorem dX5_publish_170 : decode cX5_publish 170 = .ok (.bipush 8, 2) := dk_16 8 (dk_at dksX5_publish_7 4 rfl rfl)
theorem dX5_publish_172 : decode cX5_publish 172 = .ok (.iaload, 1) := dk_46 (dk_at dksX5_publish_7 6 rfl rfl)
theorem dX5_publish_173 : decode cX5_publish 173 = .ok (.if_icmp .ge 94, 3) := dk_162 0 94 (dk_at dksX5_publish_7 7 rfl rfl)
theorem dX5_publish_176 : decode cX5_publish 176 = .ok (.bipush 12, 2) := dk_16 12 (dk_at dksX5_publish_7 10 rfl rfl)
theorem dX5_publish_178 : decode cX5_publish 178 = .ok (.aload_n 0, 1) := dk_42 (dk_at dksX5_publish_7 12 rfl rfl)
theorem dX5_publish_179 : decode cX5_publish 179 = .ok (.getfield 303, 3) := dk_180 1 47 (dk_at dksX5_publish_7 13 rfl rfl)
theorem dX5_publish_182 : decode cX5_publish 182 = .ok (.imul, 1) := dk_104 (dk_at dksX5_publish_7 16 rfl rfl)
theorem dX5_publish_183 : decode cX5_publish 183 = .ok (.iload_n 2, 1) := dk_28 (dk_at dksX5_publish_7 17 rfl rfl)
theorem dX5_publish_184 : decode cX5_publish 184 = .ok (.iadd, 1) := dk_96 (dk_at dksX5_publish_7 18 rfl rfl)
theorem dX5_publish_185 : decode cX5_publish 185 = .ok (.istore_n 3, 1) := dk_62 (dk_at dksX5_publish_7 19 rfl rfl)
theorem dX5_publish_186 : decode cX5_publish 186 = .ok (.aload_n 0, 1) := dk_42 (dk_at dksX5_publish_7 20 rfl rfl)
theorem dX5_publish_187 : decode cX5_publish 187 = .ok (.getfield 38, 3) := dk_180 0 38 (dk_at dksX5_publish_7 21 rfl rfl)
theorem dX5_publish_190 : decode cX5_publish 190 = .ok (.iload_n 3, 1) := dk_29 (dk_at dksX5_publish_8 0 rfl rfl)
theorem dX5_publish_191 : decode cX5_publish 191 = .ok (.aload_n 0, 1) := dk_42 (dk_at dksX5_publish_8 1 rfl rfl)
theorem dX5_publish_192 : decode cX5_publish 192 = .ok (.getfield 38, 3) := dk_180 0 38 (dk_at dksX5_publish_8 2 rfl rfl)
theorem dX5_publish_195 : decode cX5_publish 195 = .ok (.bipush 96, 2) := dk_16 96 (dk_at dksX5_publish_8 5 rfl rfl)
theorem dX5_publish_197 : decode cX5_publish 197 = .ok (.iload_n 2, 1) := dk_28 (dk_at dksX5_publish_8 7 rfl rfl)
theorem dX5_publish_198 : decode cX5_publish 198 = .ok (.iadd, 1) := dk_96 (dk_at dksX5_publish_8 8 rfl rfl)
theorem dX5_publish_199 : decode cX5_publish 199 = .ok (.iaload, 1) := dk_46 (dk_at dksX5_publish_8 9 rfl rfl)
theorem dX5_publish_200 : decode cX5_publish 200 = .ok (.iastore, 1) := dk_79 (dk_at dksX5_publish_8 10 rfl rfl)
theorem dX5_publish_201 : decode cX5_publish 201 = .ok (.aload_n 0, 1) := dk_42 (dk_at dksX5_publish_8 11 rfl rfl)
theorem dX5_publish_202 : decode cX5_publish 202 = .ok (.getfield 41, 3) := dk_180 0 41 (dk_at dksX5_publish_8 12 rfl rfl)
theorem dX5_publish_205 : decode cX5_publish 205 = .ok (.iload_n 3, 1) := dk_29 (dk_at dksX5_publish_8 15 rfl rfl)
theorem dX5_publish_206 : decode cX5_publish 206 = .ok (.aload_n 0, 1) := dk_42 (dk_at dksX5_publish_8 16 rfl rfl)
theorem dX5_publish_207 : decode cX5_publish 207 = .ok (.getfield 41, 3) := dk_180 0 41 (dk_at dksX5_publish_8 17 rfl rfl)
theorem dX5_publish_210 : decode cX5_publish 210 = .ok (.bipush 96, 2) := dk_16 96 (dk_at dksX5_publish_8 20 rfl rfl)
theorem dX5_publish_212 : decode cX5_publish 212 = .ok (.iload_n 2, 1) := dk_28 (dk_at dksX5_publish_8 22 rfl rfl)
theorem dX5_publish_213 : decode cX5_publish 213 = .ok (.iadd, 1) := dk_96 (dk_at dksX5_publish_8 23 rfl rfl)
theorem dX5_publish_214 : decode cX5_publish 214 = .ok (.iaload, 1) := dk_46 (dk_at dksX5_publish_9 0 rfl rfl)
theorem dX5_publish_215 : decode cX5_publish 215 = .ok (.iastore, 1) := dk_79 (dk_at dksX5_publish_9 1 rfl rfl)
theorem dX5_publish_216 : decode cX5_publish 216 = .ok (.aload_n 0, 1) := dk_42 (dk_at dksX5_publish_9 2 rfl rfl)
theorem dX5_publish_217 : decode cX5_publish 217 = .ok (.getfield 44, 3) := dk_180 0 44 (dk_at dksX5_publish_9 3 rfl rfl)
theorem dX5_publish_220 : decode cX5_publish 220 = .ok (.iload_n 3, 1) := dk_29 (dk_at dksX5_publish_9 6 rfl rfl)
theorem dX5_publish_221 : decode cX5_publish 221 = .ok (.aload_n 0, 1) := dk_42 (dk_at dksX5_publish_9 7 rfl rfl)
theorem dX5_publish_222 : decode cX5_publish 222 = .ok (.getfield 44, 3) := dk_180 0 44 (dk_at dksX5_publish_9 8 rfl rfl)
theorem dX5_publish_225 : decode cX5_publish 225 = .ok (.bipush 96, 2) := dk_16 96 (dk_at dksX5_publish_9 11 rfl rfl)
theorem dX5_publish_227 : decode cX5_publish 227 = .ok (.iload_n 2, 1) := dk_28 (dk_at dksX5_publish_9 13 rfl rfl)
theorem dX5_publish_228 : decode cX5_publish 228 = .ok (.iadd, 1) := dk_96 (dk_at dksX5_publish_9 14 rfl rfl)
theorem dX5_publish_229 : decode cX5_publish 229 = .ok (.iaload, 1) := dk_46 (dk_at dksX5_publish_9 15 rfl rfl)
theorem dX5_publish_230 : decode cX5_publish 230 = .ok (.iastore, 1) := dk_79 (dk_at dksX5_publish_9 16 rfl rfl)
theorem dX5_publish_231 : decode cX5_publish 231 = .ok (.aload_n 0, 1) := dk_42 (dk_at dksX5_publish_9 17 rfl rfl)
theorem dX5_publish_232 : decode cX5_publish 232 = .ok (.getfield 47, 3) := dk_180 0 47 (dk_at dksX5_publish_9 18 rfl rfl)
theorem dX5_publish_235 : decode cX5_publish 235 = .ok (.iload_n 3, 1) := dk_29 (dk_at dksX5_publish_9 21 rfl rfl)
theorem dX5_publish_236 : decode cX5_publish 236 = .ok (.aload_n 0, 1) := dk_42 (dk_at dksX5_publish_9 22 rfl rfl)
theorem dX5_publish_237 : decode cX5_publish 237 = .ok (.getfield 47, 3) := dk_180 0 47 (dk_at dksX5_publish_10 0 rfl rfl)
theorem dX5_publish_240 : decode cX5_publish 240 = .ok (.bipush 96, 2) := dk_16 96 (dk_at dksX5_publish_10 3 rfl rfl)
theorem dX5_publish_242 : decode cX5_publish 242 = .ok (.iload_n 2, 1) := dk_28 (dk_at dksX5_publish_10 5 rfl rfl)
theorem dX5_publish_243 : decode cX5_publish 243 = .ok (.iadd, 1) := dk_96 (dk_at dksX5_publish_10 6 rfl rfl)
theorem dX5_publish_244 : decode cX5_publish 244 = .ok (.iaload, 1) := dk_46 (dk_at dksX5_publish_10 7 rfl rfl)
theorem dX5_publish_245 : decode cX5_publish 245 = .ok (.iastore, 1) := dk_79 (dk_at dksX5_publish_10 8 rfl rfl)
theorem dX5_publish_246 : decode cX5_publish 246 = .ok (.aload_n 0, 1) := dk_42 (dk_at dksX5_publish_10 9 rfl rfl)
theorem dX5_publish_247 : decode cX5_publish 247 = .ok (.getfield 50, 3) := dk_180 0 50 (dk_at dksX5_publish_10 10 rfl rfl)
theorem dX5_publish_250 : decode cX5_publish 250 = .ok (.iload_n 3, 1) := dk_29 (dk_at dksX5_publish_10 13 rfl rfl)
theorem dX5_publish_251 : decode cX5_publish 251 = .ok (.aload_n 0, 1) := dk_42 (dk_at dksX5_publish_10 14 rfl rfl)
theorem dX5_publish_252 : decode cX5_publish 252 = .ok (.getfield 50, 3) := dk_180 0 50 (dk_at dksX5_publish_10 15 rfl rfl)
theorem dX5_publish_255 : decode cX5_publish 255 = .ok (.bipush 96, 2) := dk_16 96 (dk_at dksX5_publish_10 18 rfl rfl)
theorem dX5_publish_257 : decode cX5_publish 257 = .ok (.iload_n 2, 1) := dk_28 (dk_at dksX5_publish_10 20 rfl rfl)
theorem dX5_publish_258 : decode cX5_publish 258 = .ok (.iadd, 1) := dk_96 (dk_at dksX5_publish_10 21 rfl rfl)
theorem dX5_publish_259 : decode cX5_publish 259 = .ok (.iaload, 1) := dk_46 (dk_at dksX5_publish_10 22 rfl rfl)
theorem dX5_publish_260 : decode cX5_publish 260 = .ok (.iastore, 1) := dk_79 (dk_at dksX5_publish_10 23 rfl rfl)
theorem dX5_publish_261 : decode cX5_publish 261 = .ok (.iinc 2 1, 3) := dk_132 2 1 (dk_at dksX5_publish_11 0 rfl rfl)
theorem dX5_publish_264 : decode cX5_publish 264 = .ok (.goto (-99), 3) := dk_167 255 157 (dk_at dksX5_publish_11 3 rfl rfl)
theorem dX5_publish_267 : decode cX5_publish 267 = .ok (.aload_n 0, 1) := dk_42 (dk_at dksX5_publish_11 6 rfl rfl)
theorem dX5_publish_268 : decode cX5_publish 268 = .ok (.getfield 35, 3) := dk_180 0 35 (dk_at dksX5_publish_11 7 rfl rfl)
theorem dX5_publish_271 : decode cX5_publish 271 = .ok (.aload_n 0, 1) := dk_42 (dk_at dksX5_publish_11 10 rfl rfl)
theorem dX5_publish_272 : decode cX5_publish 272 = .ok (.getfield 303, 3) := dk_180 1 47 (dk_at dksX5_publish_11 11 rfl rfl)
theorem dX5_publish_275 : decode cX5_publish 275 = .ok (.aload_n 0, 1) := dk_42 (dk_at dksX5_publish_11 14 rfl rfl)
theorem dX5_publish_276 : decode cX5_publish 276 = .ok (.getfield 35, 3) := dk_180 0 35 (dk_at dksX5_publish_11 15 rfl rfl)
theorem dX5_publish_279 : decode cX5_publish 279 = .ok (.bipush 8, 2) := dk_16 8 (dk_at dksX5_publish_11 18 rfl rfl)
theorem dX5_publish_281 : decode cX5_publish 281 = .ok (.iaload, 1) := dk_46 (dk_at dksX5_publish_11 20 rfl rfl)
theorem dX5_publish_282 : decode cX5_publish 282 = .ok (.iastore, 1) := dk_79 (dk_at dksX5_publish_11 21 rfl rfl)
theorem dX5_publish_283 : decode cX5_publish 283 = .ok (.aload_n 0, 1) := dk_42 (dk_at dksX5_publish_11 22 rfl rfl)
theorem dX5_publish_284 : decode cX5_publish 284 = .ok (.getfield 35, 3) := dk_180 0 35 (dk_at dksX5_publish_12 0 rfl rfl)
theorem dX5_publish_287 : decode cX5_publish 287 = .ok (.bipush 8, 2) := dk_16 8 (dk_at dksX5_publish_12 3 rfl rfl)
theorem dX5_publish_289 : decode cX5_publish 289 = .ok (.iconst 0, 1) := dk_3 (dk_at dksX5_publish_12 5 rfl rfl)
theorem dX5_publish_290 : decode cX5_publish 290 = .ok (.iastore, 1) := dk_79 (dk_at dksX5_publish_12 6 rfl rfl)
theorem dX5_publish_291 : decode cX5_publish 291 = .ok (.aload_n 0, 1) := dk_42 (dk_at dksX5_publish_12 7 rfl rfl)
theorem dX5_publish_292 : decode cX5_publish 292 = .ok (.dup, 1) := dk_89 (dk_at dksX5_publish_12 8 rfl rfl)
theorem dX5_publish_293 : decode cX5_publish 293 = .ok (.getfield 303, 3) := dk_180 1 47 (dk_at dksX5_publish_12 9 rfl rfl)
theorem dX5_publish_296 : decode cX5_publish 296 = .ok (.iconst 1, 1) := dk_4 (dk_at dksX5_publish_12 12 rfl rfl)
theorem dX5_publish_297 : decode cX5_publish 297 = .ok (.iadd, 1) := dk_96 (dk_at dksX5_publish_12 13 rfl rfl)
theorem dX5_publish_298 : decode cX5_publish 298 = .ok (.putfield 303, 3) := dk_181 1 47 (dk_at dksX5_publish_12 14 rfl rfl)
theorem dX5_publish_301 : decode cX5_publish 301 = .ok (.aload_n 0, 1) := dk_42 (dk_at dksX5_publish_12 17 rfl rfl)
theorem dX5_publish_302 : decode cX5_publish 302 = .ok (.getfield 303, 3) := dk_180 1 47 (dk_at dksX5_publish_12 18 rfl rfl)
theorem dX5_publish_305 : decode cX5_publish 305 = .ok (.iconst 1, 1) := dk_4 (dk_at dksX5_publish_12 21 rfl rfl)
theorem dX5_publish_306 : decode cX5_publish 306 = .ok (.isub, 1) := dk_100 (dk_at dksX5_publish_12 22 rfl rfl)
theorem dX5_publish_307 : decode cX5_publish 307 = .ok (.ireturn, 1) := dk_172 (dk_at dksX5_publish_12 23 rfl rfl)
abbrev cX5_isTest : ByteArray := prog_14_method_34_code
def yX5_isTest : MethodName := ⟨RX5, "isTest", "(I)Z"⟩
def dkwX5_isTest_0 : List UInt8 := [26, 4, 161, 0, 12, 26, 7, 163, 0, 7, 4, 167, 0, 4, 3, 172]
abbrev dktX5_isTest_0 : List UInt8 := dkwX5_isTest_0 ++ []
theorem dksX5_isTest_0 : cX5_isTest.data.toList.drop 0 = dktX5_isTest_0 := by decide +kernel
theorem dX5_isTest_0 : decode cX5_isTest 0 = .ok (.iload_n 0, 1) := dk_26 (dk_at dksX5_isTest_0 0 rfl rfl)
theorem dX5_isTest_1 : decode cX5_isTest 1 = .ok (.iconst 1, 1) := dk_4 (dk_at dksX5_isTest_0 1 rfl rfl)
theorem dX5_isTest_2 : decode cX5_isTest 2 = .ok (.if_icmp .lt 12, 3) := dk_161 0 12 (dk_at dksX5_isTest_0 2 rfl rfl)
theorem dX5_isTest_5 : decode cX5_isTest 5 = .ok (.iload_n 0, 1) := dk_26 (dk_at dksX5_isTest_0 5 rfl rfl)
theorem dX5_isTest_6 : decode cX5_isTest 6 = .ok (.iconst 4, 1) := dk_7 (dk_at dksX5_isTest_0 6 rfl rfl)
theorem dX5_isTest_7 : decode cX5_isTest 7 = .ok (.if_icmp .gt 7, 3) := dk_163 0 7 (dk_at dksX5_isTest_0 7 rfl rfl)
theorem dX5_isTest_10 : decode cX5_isTest 10 = .ok (.iconst 1, 1) := dk_4 (dk_at dksX5_isTest_0 10 rfl rfl)
theorem dX5_isTest_11 : decode cX5_isTest 11 = .ok (.goto 4, 3) := dk_167 0 4 (dk_at dksX5_isTest_0 11 rfl rfl)
theorem dX5_isTest_14 : decode cX5_isTest 14 = .ok (.iconst 0, 1) := dk_3 (dk_at dksX5_isTest_0 14 rfl rfl)
theorem dX5_isTest_15 : decode cX5_isTest 15 = .ok (.ireturn, 1) := dk_172 (dk_at dksX5_isTest_0 15 rfl rfl)
abbrev cX5_circles : ByteArray := prog_14_method_35_code
def yX5_circles : MethodName := ⟨RX5, "circles", "(I)Z"⟩
def dkwX5_circles_6 : List UInt8 := [132, 5, 1, 167, 255, 135, 167, 255, 122, 21, 4, 172]
abbrev dktX5_circles_6 : List UInt8 := dkwX5_circles_6 ++ []
def dkwX5_circles_5 : List UInt8 := [167, 0, 4, 3, 128, 62, 29, 21, 7, 155, 0, 10, 4, 21, 7, 120, 167, 0, 4, 3, 128, 62]
abbrev dktX5_circles_5 : List UInt8 := dkwX5_circles_5 ++ dktX5_circles_6
def dkwX5_circles_4 : List UInt8 := [21, 7, 27, 160, 0, 7, 4, 167, 0, 4, 3, 54, 4, 29, 21, 6, 155, 0, 10, 4, 21, 6, 120]
abbrev dktX5_circles_4 : List UInt8 := dkwX5_circles_4 ++ dktX5_circles_5
def dkwX5_circles_3 : List UInt8 := [42, 180, 0, 50, 16, 96, 21, 5, 96, 46, 54, 7, 21, 4, 154, 0, 15, 21, 6, 27, 159, 0, 9]
abbrev dktX5_circles_3 : List UInt8 := dkwX5_circles_3 ++ dktX5_circles_4
def dkwX5_circles_2 : List UInt8 := [16, 96, 21, 5, 96, 46, 184, 1, 44, 153, 0, 83, 42, 180, 0, 47, 16, 96, 21, 5, 96, 46, 54, 6]
abbrev dktX5_circles_2 : List UInt8 := dkwX5_circles_2 ++ dktX5_circles_3
def dkwX5_circles_1 : List UInt8 := [180, 0, 35, 16, 8, 46, 162, 0, 115, 28, 21, 5, 122, 4, 126, 4, 160, 0, 99, 42, 180, 0, 38]
abbrev dktX5_circles_1 : List UInt8 := dkwX5_circles_1 ++ dktX5_circles_2
def dkwX5_circles_0 : List UInt8 := [3, 61, 4, 27, 120, 62, 3, 54, 4, 29, 28, 159, 0, 135, 29, 61, 3, 54, 5, 21, 5, 42]
abbrev dktX5_circles_0 : List UInt8 := dkwX5_circles_0 ++ dktX5_circles_1
theorem dksX5_circles_0 : cX5_circles.data.toList.drop 0 = dktX5_circles_0 := by decide +kernel
theorem dksX5_circles_1 : cX5_circles.data.toList.drop 22 = dktX5_circles_1 := dk_seg dksX5_circles_0 22 rfl rfl
theorem dksX5_circles_2 : cX5_circles.data.toList.drop 45 = dktX5_circles_2 := dk_seg dksX5_circles_1 23 rfl rfl
theorem dksX5_circles_3 : cX5_circles.data.toList.drop 69 = dktX5_circles_3 := dk_seg dksX5_circles_2 24 rfl rfl
theorem dksX5_circles_4 : cX5_circles.data.toList.drop 92 = dktX5_circles_4 := dk_seg dksX5_circles_3 23 rfl rfl
theorem dksX5_circles_5 : cX5_circles.data.toList.drop 115 = dktX5_circles_5 := dk_seg dksX5_circles_4 23 rfl rfl
theorem dksX5_circles_6 : cX5_circles.data.toList.drop 137 = dktX5_circles_6 := dk_seg dksX5_circles_5 22 rfl rfl
theorem dX5_circles_0 : decode cX5_circles 0 = .ok (.iconst 0, 1) := dk_3 (dk_at dksX5_circles_0 0 rfl rfl)
theorem dX5_circles_1 : decode cX5_circles 1 = .ok (.istore_n 2, 1) := dk_61 (dk_at dksX5_circles_0 1 rfl rfl)
theorem dX5_circles_2 : decode cX5_circles 2 = .ok (.iconst 1, 1) := dk_4 (dk_at dksX5_circles_0 2 rfl rfl)
theorem dX5_circles_3 : decode cX5_circles 3 = .ok (.iload_n 1, 1) := dk_27 (dk_at dksX5_circles_0 3 rfl rfl)
theorem dX5_circles_4 : decode cX5_circles 4 = .ok (.ishl, 1) := dk_120 (dk_at dksX5_circles_0 4 rfl rfl)
theorem dX5_circles_5 : decode cX5_circles 5 = .ok (.istore_n 3, 1) := dk_62 (dk_at dksX5_circles_0 5 rfl rfl)
theorem dX5_circles_6 : decode cX5_circles 6 = .ok (.iconst 0, 1) := dk_3 (dk_at dksX5_circles_0 6 rfl rfl)
theorem dX5_circles_7 : decode cX5_circles 7 = .ok (.istore 4, 2) := dk_54 4 (dk_at dksX5_circles_0 7 rfl rfl)
theorem dX5_circles_9 : decode cX5_circles 9 = .ok (.iload_n 3, 1) := dk_29 (dk_at dksX5_circles_0 9 rfl rfl)
theorem dX5_circles_10 : decode cX5_circles 10 = .ok (.iload_n 2, 1) := dk_28 (dk_at dksX5_circles_0 10 rfl rfl)
theorem dX5_circles_11 : decode cX5_circles 11 = .ok (.if_icmp .eq 135, 3) := dk_159 0 135 (dk_at dksX5_circles_0 11 rfl rfl)
theorem dX5_circles_14 : decode cX5_circles 14 = .ok (.iload_n 3, 1) := dk_29 (dk_at dksX5_circles_0 14 rfl rfl)
theorem dX5_circles_15 : decode cX5_circles 15 = .ok (.istore_n 2, 1) := dk_61 (dk_at dksX5_circles_0 15 rfl rfl)
theorem dX5_circles_16 : decode cX5_circles 16 = .ok (.iconst 0, 1) := dk_3 (dk_at dksX5_circles_0 16 rfl rfl)
theorem dX5_circles_17 : decode cX5_circles 17 = .ok (.istore 5, 2) := dk_54 5 (dk_at dksX5_circles_0 17 rfl rfl)
theorem dX5_circles_19 : decode cX5_circles 19 = .ok (.iload 5, 2) := dk_21 5 (dk_at dksX5_circles_0 19 rfl rfl)
theorem dX5_circles_21 : decode cX5_circles 21 = .ok (.aload_n 0, 1) := dk_42 (dk_at dksX5_circles_0 21 rfl rfl)
theorem dX5_circles_22 : decode cX5_circles 22 = .ok (.getfield 35, 3) := dk_180 0 35 (dk_at dksX5_circles_1 0 rfl rfl)
theorem dX5_circles_25 : decode cX5_circles 25 = .ok (.bipush 8, 2) := dk_16 8 (dk_at dksX5_circles_1 3 rfl rfl)
theorem dX5_circles_27 : decode cX5_circles 27 = .ok (.iaload, 1) := dk_46 (dk_at dksX5_circles_1 5 rfl rfl)
theorem dX5_circles_28 : decode cX5_circles 28 = .ok (.if_icmp .ge 115, 3) := dk_162 0 115 (dk_at dksX5_circles_1 6 rfl rfl)
theorem dX5_circles_31 : decode cX5_circles 31 = .ok (.iload_n 2, 1) := dk_28 (dk_at dksX5_circles_1 9 rfl rfl)
theorem dX5_circles_32 : decode cX5_circles 32 = .ok (.iload 5, 2) := dk_21 5 (dk_at dksX5_circles_1 10 rfl rfl)
theorem dX5_circles_34 : decode cX5_circles 34 = .ok (.ishr, 1) := dk_122 (dk_at dksX5_circles_1 12 rfl rfl)
theorem dX5_circles_35 : decode cX5_circles 35 = .ok (.iconst 1, 1) := dk_4 (dk_at dksX5_circles_1 13 rfl rfl)
theorem dX5_circles_36 : decode cX5_circles 36 = .ok (.iand, 1) := dk_126 (dk_at dksX5_circles_1 14 rfl rfl)
theorem dX5_circles_37 : decode cX5_circles 37 = .ok (.iconst 1, 1) := dk_4 (dk_at dksX5_circles_1 15 rfl rfl)
theorem dX5_circles_38 : decode cX5_circles 38 = .ok (.if_icmp .ne 99, 3) := dk_160 0 99 (dk_at dksX5_circles_1 16 rfl rfl)
theorem dX5_circles_41 : decode cX5_circles 41 = .ok (.aload_n 0, 1) := dk_42 (dk_at dksX5_circles_1 19 rfl rfl)
theorem dX5_circles_42 : decode cX5_circles 42 = .ok (.getfield 38, 3) := dk_180 0 38 (dk_at dksX5_circles_1 20 rfl rfl)
theorem dX5_circles_45 : decode cX5_circles 45 = .ok (.bipush 96, 2) := dk_16 96 (dk_at dksX5_circles_2 0 rfl rfl)
theorem dX5_circles_47 : decode cX5_circles 47 = .ok (.iload 5, 2) := dk_21 5 (dk_at dksX5_circles_2 2 rfl rfl)
theorem dX5_circles_49 : decode cX5_circles 49 = .ok (.iadd, 1) := dk_96 (dk_at dksX5_circles_2 4 rfl rfl)
theorem dX5_circles_50 : decode cX5_circles 50 = .ok (.iaload, 1) := dk_46 (dk_at dksX5_circles_2 5 rfl rfl)
theorem dX5_circles_51 : decode cX5_circles 51 = .ok (.invokestatic 300, 3) := dk_184 1 44 (dk_at dksX5_circles_2 6 rfl rfl)
theorem dX5_circles_54 : decode cX5_circles 54 = .ok (.ifCond .eq 83, 3) := dk_153 0 83 (dk_at dksX5_circles_2 9 rfl rfl)
theorem dX5_circles_57 : decode cX5_circles 57 = .ok (.aload_n 0, 1) := dk_42 (dk_at dksX5_circles_2 12 rfl rfl)
theorem dX5_circles_58 : decode cX5_circles 58 = .ok (.getfield 47, 3) := dk_180 0 47 (dk_at dksX5_circles_2 13 rfl rfl)
theorem dX5_circles_61 : decode cX5_circles 61 = .ok (.bipush 96, 2) := dk_16 96 (dk_at dksX5_circles_2 16 rfl rfl)
theorem dX5_circles_63 : decode cX5_circles 63 = .ok (.iload 5, 2) := dk_21 5 (dk_at dksX5_circles_2 18 rfl rfl)
theorem dX5_circles_65 : decode cX5_circles 65 = .ok (.iadd, 1) := dk_96 (dk_at dksX5_circles_2 20 rfl rfl)
theorem dX5_circles_66 : decode cX5_circles 66 = .ok (.iaload, 1) := dk_46 (dk_at dksX5_circles_2 21 rfl rfl)
theorem dX5_circles_67 : decode cX5_circles 67 = .ok (.istore 6, 2) := dk_54 6 (dk_at dksX5_circles_2 22 rfl rfl)
theorem dX5_circles_69 : decode cX5_circles 69 = .ok (.aload_n 0, 1) := dk_42 (dk_at dksX5_circles_3 0 rfl rfl)
theorem dX5_circles_70 : decode cX5_circles 70 = .ok (.getfield 50, 3) := dk_180 0 50 (dk_at dksX5_circles_3 1 rfl rfl)
theorem dX5_circles_73 : decode cX5_circles 73 = .ok (.bipush 96, 2) := dk_16 96 (dk_at dksX5_circles_3 4 rfl rfl)
theorem dX5_circles_75 : decode cX5_circles 75 = .ok (.iload 5, 2) := dk_21 5 (dk_at dksX5_circles_3 6 rfl rfl)
theorem dX5_circles_77 : decode cX5_circles 77 = .ok (.iadd, 1) := dk_96 (dk_at dksX5_circles_3 8 rfl rfl)
theorem dX5_circles_78 : decode cX5_circles 78 = .ok (.iaload, 1) := dk_46 (dk_at dksX5_circles_3 9 rfl rfl)
theorem dX5_circles_79 : decode cX5_circles 79 = .ok (.istore 7, 2) := dk_54 7 (dk_at dksX5_circles_3 10 rfl rfl)
theorem dX5_circles_81 : decode cX5_circles 81 = .ok (.iload 4, 2) := dk_21 4 (dk_at dksX5_circles_3 12 rfl rfl)
theorem dX5_circles_83 : decode cX5_circles 83 = .ok (.ifCond .ne 15, 3) := dk_154 0 15 (dk_at dksX5_circles_3 14 rfl rfl)
theorem dX5_circles_86 : decode cX5_circles 86 = .ok (.iload 6, 2) := dk_21 6 (dk_at dksX5_circles_3 17 rfl rfl)
theorem dX5_circles_88 : decode cX5_circles 88 = .ok (.iload_n 1, 1) := dk_27 (dk_at dksX5_circles_3 19 rfl rfl)
theorem dX5_circles_89 : decode cX5_circles 89 = .ok (.if_icmp .eq 9, 3) := dk_159 0 9 (dk_at dksX5_circles_3 20 rfl rfl)
theorem dX5_circles_92 : decode cX5_circles 92 = .ok (.iload 7, 2) := dk_21 7 (dk_at dksX5_circles_4 0 rfl rfl)
theorem dX5_circles_94 : decode cX5_circles 94 = .ok (.iload_n 1, 1) := dk_27 (dk_at dksX5_circles_4 2 rfl rfl)
theorem dX5_circles_95 : decode cX5_circles 95 = .ok (.if_icmp .ne 7, 3) := dk_160 0 7 (dk_at dksX5_circles_4 3 rfl rfl)
theorem dX5_circles_98 : decode cX5_circles 98 = .ok (.iconst 1, 1) := dk_4 (dk_at dksX5_circles_4 6 rfl rfl)
theorem dX5_circles_99 : decode cX5_circles 99 = .ok (.goto 4, 3) := dk_167 0 4 (dk_at dksX5_circles_4 7 rfl rfl)
theorem dX5_circles_102 : decode cX5_circles 102 = .ok (.iconst 0, 1) := dk_3 (dk_at dksX5_circles_4 10 rfl rfl)
theorem dX5_circles_103 : decode cX5_circles 103 = .ok (.istore 4, 2) := dk_54 4 (dk_at dksX5_circles_4 11 rfl rfl)
theorem dX5_circles_105 : decode cX5_circles 105 = .ok (.iload_n 3, 1) := dk_29 (dk_at dksX5_circles_4 13 rfl rfl)
theorem dX5_circles_106 : decode cX5_circles 106 = .ok (.iload 6, 2) := dk_21 6 (dk_at dksX5_circles_4 14 rfl rfl)
theorem dX5_circles_108 : decode cX5_circles 108 = .ok (.ifCond .lt 10, 3) := dk_155 0 10 (dk_at dksX5_circles_4 16 rfl rfl)
theorem dX5_circles_111 : decode cX5_circles 111 = .ok (.iconst 1, 1) := dk_4 (dk_at dksX5_circles_4 19 rfl rfl)
theorem dX5_circles_112 : decode cX5_circles 112 = .ok (.iload 6, 2) := dk_21 6 (dk_at dksX5_circles_4 20 rfl rfl)
theorem dX5_circles_114 : decode cX5_circles 114 = .ok (.ishl, 1) := dk_120 (dk_at dksX5_circles_4 22 rfl rfl)
theorem dX5_circles_115 : decode cX5_circles 115 = .ok (.goto 4, 3) := dk_167 0 4 (dk_at dksX5_circles_5 0 rfl rfl)
theorem dX5_circles_118 : decode cX5_circles 118 = .ok (.iconst 0, 1) := dk_3 (dk_at dksX5_circles_5 3 rfl rfl)
theorem dX5_circles_119 : decode cX5_circles 119 = .ok (.ior, 1) := dk_128 (dk_at dksX5_circles_5 4 rfl rfl)
theorem dX5_circles_120 : decode cX5_circles 120 = .ok (.istore_n 3, 1) := dk_62 (dk_at dksX5_circles_5 5 rfl rfl)
theorem dX5_circles_121 : decode cX5_circles 121 = .ok (.iload_n 3, 1) := dk_29 (dk_at dksX5_circles_5 6 rfl rfl)
theorem dX5_circles_122 : decode cX5_circles 122 = .ok (.iload 7, 2) := dk_21 7 (dk_at dksX5_circles_5 7 rfl rfl)
theorem dX5_circles_124 : decode cX5_circles 124 = .ok (.ifCond .lt 10, 3) := dk_155 0 10 (dk_at dksX5_circles_5 9 rfl rfl)
theorem dX5_circles_127 : decode cX5_circles 127 = .ok (.iconst 1, 1) := dk_4 (dk_at dksX5_circles_5 12 rfl rfl)
theorem dX5_circles_128 : decode cX5_circles 128 = .ok (.iload 7, 2) := dk_21 7 (dk_at dksX5_circles_5 13 rfl rfl)
theorem dX5_circles_130 : decode cX5_circles 130 = .ok (.ishl, 1) := dk_120 (dk_at dksX5_circles_5 15 rfl rfl)
theorem dX5_circles_131 : decode cX5_circles 131 = .ok (.goto 4, 3) := dk_167 0 4 (dk_at dksX5_circles_5 16 rfl rfl)
theorem dX5_circles_134 : decode cX5_circles 134 = .ok (.iconst 0, 1) := dk_3 (dk_at dksX5_circles_5 19 rfl rfl)
theorem dX5_circles_135 : decode cX5_circles 135 = .ok (.ior, 1) := dk_128 (dk_at dksX5_circles_5 20 rfl rfl)
theorem dX5_circles_136 : decode cX5_circles 136 = .ok (.istore_n 3, 1) := dk_62 (dk_at dksX5_circles_5 21 rfl rfl)
theorem dX5_circles_137 : decode cX5_circles 137 = .ok (.iinc 5 1, 3) := dk_132 5 1 (dk_at dksX5_circles_6 0 rfl rfl)
theorem dX5_circles_140 : decode cX5_circles 140 = .ok (.goto (-121), 3) := dk_167 255 135 (dk_at dksX5_circles_6 3 rfl rfl)
theorem dX5_circles_143 : decode cX5_circles 143 = .ok (.goto (-134), 3) := dk_167 255 122 (dk_at dksX5_circles_6 6 rfl rfl)
theorem dX5_circles_146 : decode cX5_circles 146 = .ok (.iload 4, 2) := dk_21 4 (dk_at dksX5_circles_6 9 rfl rfl)
theorem dX5_circles_148 : decode cX5_circles 148 = .ok (.ireturn, 1) := dk_172 (dk_at dksX5_circles_6 11 rfl rfl)
abbrev cX5_weakest : ByteArray := prog_14_method_39_code
def yX5_weakest : MethodName := ⟨RX5, "weakest", "(I)I"⟩
def dkwX5_weakest_13 : List UInt8 := [167, 255, 180, 28, 172]
abbrev dktX5_weakest_13 : List UInt8 := dkwX5_weakest_13 ++ []
def dkwX5_weakest_12 : List UInt8 := [184, 1, 53, 28, 162, 0, 13, 29, 16, 8, 112, 184, 1, 53, 167, 0, 4, 28, 61, 132, 3, 1]
abbrev dktX5_weakest_12 : List UInt8 := dkwX5_weakest_12 ++ dktX5_weakest_13
def dkwX5_weakest_11 : List UInt8 := [160, 0, 7, 4, 167, 0, 4, 3, 54, 4, 21, 4, 153, 0, 29, 28, 2, 159, 0, 14, 29, 16, 8, 112]
abbrev dktX5_weakest_11 : List UInt8 := dkwX5_weakest_11 ++ dktX5_weakest_12
def dkwX5_weakest_10 : List UInt8 := [180, 0, 53, 29, 51, 153, 0, 25, 42, 180, 0, 38, 16, 12, 27, 104, 29, 16, 8, 108, 96, 46, 8]
abbrev dktX5_weakest_10 : List UInt8 := dkwX5_weakest_10 ++ dktX5_weakest_11
def dkwX5_weakest_9 : List UInt8 := [132, 3, 1, 167, 255, 99, 132, 2, 1, 167, 255, 85, 2, 61, 3, 62, 29, 16, 96, 162, 0, 76, 42]
abbrev dktX5_weakest_9 : List UInt8 := dkwX5_weakest_9 ++ dktX5_weakest_10
def dkwX5_weakest_8 : List UInt8 := [21, 6, 153, 0, 8, 21, 7, 154, 0, 16, 42, 42, 180, 0, 50, 21, 4, 46, 21, 5, 182, 1, 56]
abbrev dktX5_weakest_8 : List UInt8 := dkwX5_weakest_8 ++ dktX5_weakest_9
def dkwX5_weakest_7 : List UInt8 := [46, 154, 0, 18, 21, 5, 4, 42, 180, 0, 41, 21, 4, 46, 120, 128, 167, 0, 5, 21, 5, 182, 1, 56]
abbrev dktX5_weakest_7 : List UInt8 := dkwX5_weakest_7 ++ dktX5_weakest_8
def dkwX5_weakest_6 : List UInt8 := [21, 6, 153, 0, 8, 21, 7, 153, 0, 41, 42, 42, 180, 0, 47, 21, 4, 46, 42, 180, 0, 38, 21, 4]
abbrev dktX5_weakest_6 : List UInt8 := dkwX5_weakest_6 ++ dktX5_weakest_7
def dkwX5_weakest_5 : List UInt8 := [54, 6, 21, 5, 184, 1, 53, 42, 180, 0, 41, 21, 4, 46, 161, 0, 7, 4, 167, 0, 4, 3, 54, 7]
abbrev dktX5_weakest_5 : List UInt8 := dkwX5_weakest_5 ++ dktX5_weakest_6
def dkwX5_weakest_4 : List UInt8 := [21, 4, 46, 8, 162, 0, 114, 42, 180, 0, 38, 21, 4, 46, 7, 160, 0, 7, 4, 167, 0, 4, 3]
abbrev dktX5_weakest_4 : List UInt8 := dkwX5_weakest_4 ++ dktX5_weakest_5
def dkwX5_weakest_3 : List UInt8 := [108, 96, 54, 4, 29, 16, 8, 112, 54, 5, 42, 180, 0, 53, 29, 51, 153, 0, 125, 42, 180, 0, 38]
abbrev dktX5_weakest_3 : List UInt8 := dkwX5_weakest_3 ++ dktX5_weakest_4
def dkwX5_weakest_2 : List UInt8 := [84, 3, 61, 28, 16, 96, 162, 0, 171, 3, 62, 29, 16, 96, 162, 0, 157, 16, 12, 27, 104, 29, 16, 8]
abbrev dktX5_weakest_2 : List UInt8 := dkwX5_weakest_2 ++ dktX5_weakest_3
def dkwX5_weakest_1 : List UInt8 := [16, 96, 162, 0, 16, 42, 180, 0, 53, 28, 3, 84, 132, 2, 1, 167, 255, 240, 42, 180, 0, 53, 3, 4]
abbrev dktX5_weakest_1 : List UInt8 := dkwX5_weakest_1 ++ dktX5_weakest_2
def dkwX5_weakest_0 : List UInt8 := [42, 27, 3, 42, 180, 1, 47, 4, 100, 184, 0, 228, 182, 0, 251, 154, 0, 5, 3, 172, 3, 61, 28]
abbrev dktX5_weakest_0 : List UInt8 := dkwX5_weakest_0 ++ dktX5_weakest_1
theorem dksX5_weakest_0 : cX5_weakest.data.toList.drop 0 = dktX5_weakest_0 := by decide +kernel
theorem dksX5_weakest_1 : cX5_weakest.data.toList.drop 23 = dktX5_weakest_1 := dk_seg dksX5_weakest_0 23 rfl rfl
theorem dksX5_weakest_2 : cX5_weakest.data.toList.drop 47 = dktX5_weakest_2 := dk_seg dksX5_weakest_1 24 rfl rfl
theorem dksX5_weakest_3 : cX5_weakest.data.toList.drop 71 = dktX5_weakest_3 := dk_seg dksX5_weakest_2 24 rfl rfl
theorem dksX5_weakest_4 : cX5_weakest.data.toList.drop 94 = dktX5_weakest_4 := dk_seg dksX5_weakest_3 23 rfl rfl
theorem dksX5_weakest_5 : cX5_weakest.data.toList.drop 117 = dktX5_weakest_5 := dk_seg dksX5_weakest_4 23 rfl rfl
theorem dksX5_weakest_6 : cX5_weakest.data.toList.drop 141 = dktX5_weakest_6 := dk_seg dksX5_weakest_5 24 rfl rfl
theorem dksX5_weakest_7 : cX5_weakest.data.toList.drop 165 = dktX5_weakest_7 := dk_seg dksX5_weakest_6 24 rfl rfl
theorem dksX5_weakest_8 : cX5_weakest.data.toList.drop 189 = dktX5_weakest_8 := dk_seg dksX5_weakest_7 24 rfl rfl
theorem dksX5_weakest_9 : cX5_weakest.data.toList.drop 212 = dktX5_weakest_9 := dk_seg dksX5_weakest_8 23 rfl rfl
theorem dksX5_weakest_10 : cX5_weakest.data.toList.drop 235 = dktX5_weakest_10 := dk_seg dksX5_weakest_9 23 rfl rfl
theorem dksX5_weakest_11 : cX5_weakest.data.toList.drop 258 = dktX5_weakest_11 := dk_seg dksX5_weakest_10 23 rfl rfl
theorem dksX5_weakest_12 : cX5_weakest.data.toList.drop 282 = dktX5_weakest_12 := dk_seg dksX5_weakest_11 24 rfl rfl
theorem dksX5_weakest_13 : cX5_weakest.data.toList.drop 304 = dktX5_weakest_13 := dk_seg dksX5_weakest_12 22 rfl rfl
theorem dX5_weakest_0 : decode cX5_weakest 0 = .ok (.aload_n 0, 1) := dk_42 (dk_at dksX5_weakest_0 0 rfl rfl)
theorem dX5_weakest_1 : decode cX5_weakest 1 = .ok (.iload_n 1, 1) := dk_27 (dk_at dksX5_weakest_0 1 rfl rfl)
theorem dX5_weakest_2 : decode cX5_weakest 2 = .ok (.iconst 0, 1) := dk_3 (dk_at dksX5_weakest_0 2 rfl rfl)
theorem dX5_weakest_3 : decode cX5_weakest 3 = .ok (.aload_n 0, 1) := dk_42 (dk_at dksX5_weakest_0 3 rfl rfl)
theorem dX5_weakest_4 : decode cX5_weakest 4 = .ok (.getfield 303, 3) := dk_180 1 47 (dk_at dksX5_weakest_0 4 rfl rfl)
theorem dX5_weakest_7 : decode cX5_weakest 7 = .ok (.iconst 1, 1) := dk_4 (dk_at dksX5_weakest_0 7 rfl rfl)
theorem dX5_weakest_8 : decode cX5_weakest 8 = .ok (.isub, 1) := dk_100 (dk_at dksX5_weakest_0 8 rfl rfl)
theorem dX5_weakest_9 : decode cX5_weakest 9 = .ok (.invokestatic 228, 3) := dk_184 0 228 (dk_at dksX5_weakest_0 9 rfl rfl)
theorem dX5_weakest_12 : decode cX5_weakest 12 = .ok (.invokevirtual 251, 3) := dk_182 0 251 (dk_at dksX5_weakest_0 12 rfl rfl)
theorem dX5_weakest_15 : decode cX5_weakest 15 = .ok (.ifCond .ne 5, 3) := dk_154 0 5 (dk_at dksX5_weakest_0 15 rfl rfl)
theorem dX5_weakest_18 : decode cX5_weakest 18 = .ok (.iconst 0, 1) := dk_3 (dk_at dksX5_weakest_0 18 rfl rfl)
theorem dX5_weakest_19 : decode cX5_weakest 19 = .ok (.ireturn, 1) := dk_172 (dk_at dksX5_weakest_0 19 rfl rfl)
theorem dX5_weakest_20 : decode cX5_weakest 20 = .ok (.iconst 0, 1) := dk_3 (dk_at dksX5_weakest_0 20 rfl rfl)
theorem dX5_weakest_21 : decode cX5_weakest 21 = .ok (.istore_n 2, 1) := dk_61 (dk_at dksX5_weakest_0 21 rfl rfl)
theorem dX5_weakest_22 : decode cX5_weakest 22 = .ok (.iload_n 2, 1) := dk_28 (dk_at dksX5_weakest_0 22 rfl rfl)
theorem dX5_weakest_23 : decode cX5_weakest 23 = .ok (.bipush 96, 2) := dk_16 96 (dk_at dksX5_weakest_1 0 rfl rfl)
theorem dX5_weakest_25 : decode cX5_weakest 25 = .ok (.if_icmp .ge 16, 3) := dk_162 0 16 (dk_at dksX5_weakest_1 2 rfl rfl)
theorem dX5_weakest_28 : decode cX5_weakest 28 = .ok (.aload_n 0, 1) := dk_42 (dk_at dksX5_weakest_1 5 rfl rfl)
theorem dX5_weakest_29 : decode cX5_weakest 29 = .ok (.getfield 53, 3) := dk_180 0 53 (dk_at dksX5_weakest_1 6 rfl rfl)
theorem dX5_weakest_32 : decode cX5_weakest 32 = .ok (.iload_n 2, 1) := dk_28 (dk_at dksX5_weakest_1 9 rfl rfl)
theorem dX5_weakest_33 : decode cX5_weakest 33 = .ok (.iconst 0, 1) := dk_3 (dk_at dksX5_weakest_1 10 rfl rfl)
theorem dX5_weakest_34 : decode cX5_weakest 34 = .ok (.bastore, 1) := dk_84 (dk_at dksX5_weakest_1 11 rfl rfl)
theorem dX5_weakest_35 : decode cX5_weakest 35 = .ok (.iinc 2 1, 3) := dk_132 2 1 (dk_at dksX5_weakest_1 12 rfl rfl)
theorem dX5_weakest_38 : decode cX5_weakest 38 = .ok (.goto (-16), 3) := dk_167 255 240 (dk_at dksX5_weakest_1 15 rfl rfl)
theorem dX5_weakest_41 : decode cX5_weakest 41 = .ok (.aload_n 0, 1) := dk_42 (dk_at dksX5_weakest_1 18 rfl rfl)
theorem dX5_weakest_42 : decode cX5_weakest 42 = .ok (.getfield 53, 3) := dk_180 0 53 (dk_at dksX5_weakest_1 19 rfl rfl)
theorem dX5_weakest_45 : decode cX5_weakest 45 = .ok (.iconst 0, 1) := dk_3 (dk_at dksX5_weakest_1 22 rfl rfl)
theorem dX5_weakest_46 : decode cX5_weakest 46 = .ok (.iconst 1, 1) := dk_4 (dk_at dksX5_weakest_1 23 rfl rfl)
theorem dX5_weakest_47 : decode cX5_weakest 47 = .ok (.bastore, 1) := dk_84 (dk_at dksX5_weakest_2 0 rfl rfl)
theorem dX5_weakest_48 : decode cX5_weakest 48 = .ok (.iconst 0, 1) := dk_3 (dk_at dksX5_weakest_2 1 rfl rfl)
theorem dX5_weakest_49 : decode cX5_weakest 49 = .ok (.istore_n 2, 1) := dk_61 (dk_at dksX5_weakest_2 2 rfl rfl)
theorem dX5_weakest_50 : decode cX5_weakest 50 = .ok (.iload_n 2, 1) := dk_28 (dk_at dksX5_weakest_2 3 rfl rfl)
theorem dX5_weakest_51 : decode cX5_weakest 51 = .ok (.bipush 96, 2) := dk_16 96 (dk_at dksX5_weakest_2 4 rfl rfl)
theorem dX5_weakest_53 : decode cX5_weakest 53 = .ok (.if_icmp .ge 171, 3) := dk_162 0 171 (dk_at dksX5_weakest_2 6 rfl rfl)
theorem dX5_weakest_56 : decode cX5_weakest 56 = .ok (.iconst 0, 1) := dk_3 (dk_at dksX5_weakest_2 9 rfl rfl)
theorem dX5_weakest_57 : decode cX5_weakest 57 = .ok (.istore_n 3, 1) := dk_62 (dk_at dksX5_weakest_2 10 rfl rfl)
theorem dX5_weakest_58 : decode cX5_weakest 58 = .ok (.iload_n 3, 1) := dk_29 (dk_at dksX5_weakest_2 11 rfl rfl)
theorem dX5_weakest_59 : decode cX5_weakest 59 = .ok (.bipush 96, 2) := dk_16 96 (dk_at dksX5_weakest_2 12 rfl rfl)
theorem dX5_weakest_61 : decode cX5_weakest 61 = .ok (.if_icmp .ge 157, 3) := dk_162 0 157 (dk_at dksX5_weakest_2 14 rfl rfl)
theorem dX5_weakest_64 : decode cX5_weakest 64 = .ok (.bipush 12, 2) := dk_16 12 (dk_at dksX5_weakest_2 17 rfl rfl)
theorem dX5_weakest_66 : decode cX5_weakest 66 = .ok (.iload_n 1, 1) := dk_27 (dk_at dksX5_weakest_2 19 rfl rfl)
theorem dX5_weakest_67 : decode cX5_weakest 67 = .ok (.imul, 1) := dk_104 (dk_at dksX5_weakest_2 20 rfl rfl)
theorem dX5_weakest_68 : decode cX5_weakest 68 = .ok (.iload_n 3, 1) := dk_29 (dk_at dksX5_weakest_2 21 rfl rfl)
theorem dX5_weakest_69 : decode cX5_weakest 69 = .ok (.bipush 8, 2) := dk_16 8 (dk_at dksX5_weakest_2 22 rfl rfl)
theorem dX5_weakest_71 : decode cX5_weakest 71 = .ok (.idiv, 1) := dk_108 (dk_at dksX5_weakest_3 0 rfl rfl)
theorem dX5_weakest_72 : decode cX5_weakest 72 = .ok (.iadd, 1) := dk_96 (dk_at dksX5_weakest_3 1 rfl rfl)
theorem dX5_weakest_73 : decode cX5_weakest 73 = .ok (.istore 4, 2) := dk_54 4 (dk_at dksX5_weakest_3 2 rfl rfl)
theorem dX5_weakest_75 : decode cX5_weakest 75 = .ok (.iload_n 3, 1) := dk_29 (dk_at dksX5_weakest_3 4 rfl rfl)
theorem dX5_weakest_76 : decode cX5_weakest 76 = .ok (.bipush 8, 2) := dk_16 8 (dk_at dksX5_weakest_3 5 rfl rfl)
theorem dX5_weakest_78 : decode cX5_weakest 78 = .ok (.irem, 1) := dk_112 (dk_at dksX5_weakest_3 7 rfl rfl)
theorem dX5_weakest_79 : decode cX5_weakest 79 = .ok (.istore 5, 2) := dk_54 5 (dk_at dksX5_weakest_3 8 rfl rfl)
theorem dX5_weakest_81 : decode cX5_weakest 81 = .ok (.aload_n 0, 1) := dk_42 (dk_at dksX5_weakest_3 10 rfl rfl)
theorem dX5_weakest_82 : decode cX5_weakest 82 = .ok (.getfield 53, 3) := dk_180 0 53 (dk_at dksX5_weakest_3 11 rfl rfl)
theorem dX5_weakest_85 : decode cX5_weakest 85 = .ok (.iload_n 3, 1) := dk_29 (dk_at dksX5_weakest_3 14 rfl rfl)
theorem dX5_weakest_86 : decode cX5_weakest 86 = .ok (.baload, 1) := dk_51 (dk_at dksX5_weakest_3 15 rfl rfl)
theorem dX5_weakest_87 : decode cX5_weakest 87 = .ok (.ifCond .eq 125, 3) := dk_153 0 125 (dk_at dksX5_weakest_3 16 rfl rfl)
theorem dX5_weakest_90 : decode cX5_weakest 90 = .ok (.aload_n 0, 1) := dk_42 (dk_at dksX5_weakest_3 19 rfl rfl)
theorem dX5_weakest_91 : decode cX5_weakest 91 = .ok (.getfield 38, 3) := dk_180 0 38 (dk_at dksX5_weakest_3 20 rfl rfl)
theorem dX5_weakest_94 : decode cX5_weakest 94 = .ok (.iload 4, 2) := dk_21 4 (dk_at dksX5_weakest_4 0 rfl rfl)
theorem dX5_weakest_96 : decode cX5_weakest 96 = .ok (.iaload, 1) := dk_46 (dk_at dksX5_weakest_4 2 rfl rfl)
theorem dX5_weakest_97 : decode cX5_weakest 97 = .ok (.iconst 5, 1) := dk_8 (dk_at dksX5_weakest_4 3 rfl rfl)
theorem dX5_weakest_98 : decode cX5_weakest 98 = .ok (.if_icmp .ge 114, 3) := dk_162 0 114 (dk_at dksX5_weakest_4 4 rfl rfl)
theorem dX5_weakest_101 : decode cX5_weakest 101 = .ok (.aload_n 0, 1) := dk_42 (dk_at dksX5_weakest_4 7 rfl rfl)
theorem dX5_weakest_102 : decode cX5_weakest 102 = .ok (.getfield 38, 3) := dk_180 0 38 (dk_at dksX5_weakest_4 8 rfl rfl)
theorem dX5_weakest_105 : decode cX5_weakest 105 = .ok (.iload 4, 2) := dk_21 4 (dk_at dksX5_weakest_4 11 rfl rfl)
theorem dX5_weakest_107 : decode cX5_weakest 107 = .ok (.iaload, 1) := dk_46 (dk_at dksX5_weakest_4 13 rfl rfl)
theorem dX5_weakest_108 : decode cX5_weakest 108 = .ok (.iconst 4, 1) := dk_7 (dk_at dksX5_weakest_4 14 rfl rfl)
theorem dX5_weakest_109 : decode cX5_weakest 109 = .ok (.if_icmp .ne 7, 3) := dk_160 0 7 (dk_at dksX5_weakest_4 15 rfl rfl)
theorem dX5_weakest_112 : decode cX5_weakest 112 = .ok (.iconst 1, 1) := dk_4 (dk_at dksX5_weakest_4 18 rfl rfl)
theorem dX5_weakest_113 : decode cX5_weakest 113 = .ok (.goto 4, 3) := dk_167 0 4 (dk_at dksX5_weakest_4 19 rfl rfl)
theorem dX5_weakest_116 : decode cX5_weakest 116 = .ok (.iconst 0, 1) := dk_3 (dk_at dksX5_weakest_4 22 rfl rfl)
theorem dX5_weakest_117 : decode cX5_weakest 117 = .ok (.istore 6, 2) := dk_54 6 (dk_at dksX5_weakest_5 0 rfl rfl)
theorem dX5_weakest_119 : decode cX5_weakest 119 = .ok (.iload 5, 2) := dk_21 5 (dk_at dksX5_weakest_5 2 rfl rfl)
theorem dX5_weakest_121 : decode cX5_weakest 121 = .ok (.invokestatic 309, 3) := dk_184 1 53 (dk_at dksX5_weakest_5 4 rfl rfl)
theorem dX5_weakest_124 : decode cX5_weakest 124 = .ok (.aload_n 0, 1) := dk_42 (dk_at dksX5_weakest_5 7 rfl rfl)
theorem dX5_weakest_125 : decode cX5_weakest 125 = .ok (.getfield 41, 3) := dk_180 0 41 (dk_at dksX5_weakest_5 8 rfl rfl)
theorem dX5_weakest_128 : decode cX5_weakest 128 = .ok (.iload 4, 2) := dk_21 4 (dk_at dksX5_weakest_5 11 rfl rfl)
theorem dX5_weakest_130 : decode cX5_weakest 130 = .ok (.iaload, 1) := dk_46 (dk_at dksX5_weakest_5 13 rfl rfl)
theorem dX5_weakest_131 : decode cX5_weakest 131 = .ok (.if_icmp .lt 7, 3) := dk_161 0 7 (dk_at dksX5_weakest_5 14 rfl rfl)
theorem dX5_weakest_134 : decode cX5_weakest 134 = .ok (.iconst 1, 1) := dk_4 (dk_at dksX5_weakest_5 17 rfl rfl)
theorem dX5_weakest_135 : decode cX5_weakest 135 = .ok (.goto 4, 3) := dk_167 0 4 (dk_at dksX5_weakest_5 18 rfl rfl)
theorem dX5_weakest_138 : decode cX5_weakest 138 = .ok (.iconst 0, 1) := dk_3 (dk_at dksX5_weakest_5 21 rfl rfl)
theorem dX5_weakest_139 : decode cX5_weakest 139 = .ok (.istore 7, 2) := dk_54 7 (dk_at dksX5_weakest_5 22 rfl rfl)
theorem dX5_weakest_141 : decode cX5_weakest 141 = .ok (.iload 6, 2) := dk_21 6 (dk_at dksX5_weakest_6 0 rfl rfl)
theorem dX5_weakest_143 : decode cX5_weakest 143 = .ok (.ifCond .eq 8, 3) := dk_153 0 8 (dk_at dksX5_weakest_6 2 rfl rfl)
theorem dX5_weakest_146 : decode cX5_weakest 146 = .ok (.iload 7, 2) := dk_21 7 (dk_at dksX5_weakest_6 5 rfl rfl)
theorem dX5_weakest_148 : decode cX5_weakest 148 = .ok (.ifCond .eq 41, 3) := dk_153 0 41 (dk_at dksX5_weakest_6 7 rfl rfl)
theorem dX5_weakest_151 : decode cX5_weakest 151 = .ok (.aload_n 0, 1) := dk_42 (dk_at dksX5_weakest_6 10 rfl rfl)
theorem dX5_weakest_152 : decode cX5_weakest 152 = .ok (.aload_n 0, 1) := dk_42 (dk_at dksX5_weakest_6 11 rfl rfl)
theorem dX5_weakest_153 : decode cX5_weakest 153 = .ok (.getfield 47, 3) := dk_180 0 47 (dk_at dksX5_weakest_6 12 rfl rfl)
theorem dX5_weakest_156 : decode cX5_weakest 156 = .ok (.iload 4, 2) := dk_21 4 (dk_at dksX5_weakest_6 15 rfl rfl)
theorem dX5_weakest_158 : decode cX5_weakest 158 = .ok (.iaload, 1) := dk_46 (dk_at dksX5_weakest_6 17 rfl rfl)
theorem dX5_weakest_159 : decode cX5_weakest 159 = .ok (.aload_n 0, 1) := dk_42 (dk_at dksX5_weakest_6 18 rfl rfl)
theorem dX5_weakest_160 : decode cX5_weakest 160 = .ok (.getfield 38, 3) := dk_180 0 38 (dk_at dksX5_weakest_6 19 rfl rfl)
theorem dX5_weakest_163 : decode cX5_weakest 163 = .ok (.iload 4, 2) := dk_21 4 (dk_at dksX5_weakest_6 22 rfl rfl)
theorem dX5_weakest_165 : decode cX5_weakest 165 = .ok (.iaload, 1) := dk_46 (dk_at dksX5_weakest_7 0 rfl rfl)
theorem dX5_weakest_166 : decode cX5_weakest 166 = .ok (.ifCond .ne 18, 3) := dk_154 0 18 (dk_at dksX5_weakest_7 1 rfl rfl)
theorem dX5_weakest_169 : decode cX5_weakest 169 = .ok (.iload 5, 2) := dk_21 5 (dk_at dksX5_weakest_7 4 rfl rfl)
theorem dX5_weakest_171 : decode cX5_weakest 171 = .ok (.iconst 1, 1) := dk_4 (dk_at dksX5_weakest_7 6 rfl rfl)
theorem dX5_weakest_172 : decode cX5_weakest 172 = .ok (.aload_n 0, 1) := dk_42 (dk_at dksX5_weakest_7 7 rfl rfl)
theorem dX5_weakest_173 : decode cX5_weakest 173 = .ok (.getfield 41, 3) := dk_180 0 41 (dk_at dksX5_weakest_7 8 rfl rfl)
theorem dX5_weakest_176 : decode cX5_weakest 176 = .ok (.iload 4, 2) := dk_21 4 (dk_at dksX5_weakest_7 11 rfl rfl)
theorem dX5_weakest_178 : decode cX5_weakest 178 = .ok (.iaload, 1) := dk_46 (dk_at dksX5_weakest_7 13 rfl rfl)
theorem dX5_weakest_179 : decode cX5_weakest 179 = .ok (.ishl, 1) := dk_120 (dk_at dksX5_weakest_7 14 rfl rfl)
theorem dX5_weakest_180 : decode cX5_weakest 180 = .ok (.ior, 1) := dk_128 (dk_at dksX5_weakest_7 15 rfl rfl)
theorem dX5_weakest_181 : decode cX5_weakest 181 = .ok (.goto 5, 3) := dk_167 0 5 (dk_at dksX5_weakest_7 16 rfl rfl)
theorem dX5_weakest_184 : decode cX5_weakest 184 = .ok (.iload 5, 2) := dk_21 5 (dk_at dksX5_weakest_7 19 rfl rfl)
theorem dX5_weakest_186 : decode cX5_weakest 186 = .ok (.invokevirtual 312, 3) := dk_182 1 56 (dk_at dksX5_weakest_7 21 rfl rfl)
theorem dX5_weakest_189 : decode cX5_weakest 189 = .ok (.iload 6, 2) := dk_21 6 (dk_at dksX5_weakest_8 0 rfl rfl)
theorem dX5_weakest_191 : decode cX5_weakest 191 = .ok (.ifCond .eq 8, 3) := dk_153 0 8 (dk_at dksX5_weakest_8 2 rfl rfl)
theorem dX5_weakest_194 : decode cX5_weakest 194 = .ok (.iload 7, 2) := dk_21 7 (dk_at dksX5_weakest_8 5 rfl rfl)
theorem dX5_weakest_196 : decode cX5_weakest 196 = .ok (.ifCond .ne 16, 3) := dk_154 0 16 (dk_at dksX5_weakest_8 7 rfl rfl)
theorem dX5_weakest_199 : decode cX5_weakest 199 = .ok (.aload_n 0, 1) := dk_42 (dk_at dksX5_weakest_8 10 rfl rfl)
theorem dX5_weakest_200 : decode cX5_weakest 200 = .ok (.aload_n 0, 1) := dk_42 (dk_at dksX5_weakest_8 11 rfl rfl)
theorem dX5_weakest_201 : decode cX5_weakest 201 = .ok (.getfield 50, 3) := dk_180 0 50 (dk_at dksX5_weakest_8 12 rfl rfl)
theorem dX5_weakest_204 : decode cX5_weakest 204 = .ok (.iload 4, 2) := dk_21 4 (dk_at dksX5_weakest_8 15 rfl rfl)
theorem dX5_weakest_206 : decode cX5_weakest 206 = .ok (.iaload, 1) := dk_46 (dk_at dksX5_weakest_8 17 rfl rfl)
theorem dX5_weakest_207 : decode cX5_weakest 207 = .ok (.iload 5, 2) := dk_21 5 (dk_at dksX5_weakest_8 18 rfl rfl)
theorem dX5_weakest_209 : decode cX5_weakest 209 = .ok (.invokevirtual 312, 3) := dk_182 1 56 (dk_at dksX5_weakest_8 20 rfl rfl)
theorem dX5_weakest_212 : decode cX5_weakest 212 = .ok (.iinc 3 1, 3) := dk_132 3 1 (dk_at dksX5_weakest_9 0 rfl rfl)
theorem dX5_weakest_215 : decode cX5_weakest 215 = .ok (.goto (-157), 3) := dk_167 255 99 (dk_at dksX5_weakest_9 3 rfl rfl)
theorem dX5_weakest_218 : decode cX5_weakest 218 = .ok (.iinc 2 1, 3) := dk_132 2 1 (dk_at dksX5_weakest_9 6 rfl rfl)
theorem dX5_weakest_221 : decode cX5_weakest 221 = .ok (.goto (-171), 3) := dk_167 255 85 (dk_at dksX5_weakest_9 9 rfl rfl)
theorem dX5_weakest_224 : decode cX5_weakest 224 = .ok (.iconst (-1), 1) := dk_2 (dk_at dksX5_weakest_9 12 rfl rfl)
theorem dX5_weakest_225 : decode cX5_weakest 225 = .ok (.istore_n 2, 1) := dk_61 (dk_at dksX5_weakest_9 13 rfl rfl)
theorem dX5_weakest_226 : decode cX5_weakest 226 = .ok (.iconst 0, 1) := dk_3 (dk_at dksX5_weakest_9 14 rfl rfl)
theorem dX5_weakest_227 : decode cX5_weakest 227 = .ok (.istore_n 3, 1) := dk_62 (dk_at dksX5_weakest_9 15 rfl rfl)
theorem dX5_weakest_228 : decode cX5_weakest 228 = .ok (.iload_n 3, 1) := dk_29 (dk_at dksX5_weakest_9 16 rfl rfl)
theorem dX5_weakest_229 : decode cX5_weakest 229 = .ok (.bipush 96, 2) := dk_16 96 (dk_at dksX5_weakest_9 17 rfl rfl)
theorem dX5_weakest_231 : decode cX5_weakest 231 = .ok (.if_icmp .ge 76, 3) := dk_162 0 76 (dk_at dksX5_weakest_9 19 rfl rfl)
theorem dX5_weakest_234 : decode cX5_weakest 234 = .ok (.aload_n 0, 1) := dk_42 (dk_at dksX5_weakest_9 22 rfl rfl)
theorem dX5_weakest_235 : decode cX5_weakest 235 = .ok (.getfield 53, 3) := dk_180 0 53 (dk_at dksX5_weakest_10 0 rfl rfl)
theorem dX5_weakest_238 : decode cX5_weakest 238 = .ok (.iload_n 3, 1) := dk_29 (dk_at dksX5_weakest_10 3 rfl rfl)
theorem dX5_weakest_239 : decode cX5_weakest 239 = .ok (.baload, 1) := dk_51 (dk_at dksX5_weakest_10 4 rfl rfl)
theorem dX5_weakest_240 : decode cX5_weakest 240 = .ok (.ifCond .eq 25, 3) := dk_153 0 25 (dk_at dksX5_weakest_10 5 rfl rfl)
theorem dX5_weakest_243 : decode cX5_weakest 243 = .ok (.aload_n 0, 1) := dk_42 (dk_at dksX5_weakest_10 8 rfl rfl)
theorem dX5_weakest_244 : decode cX5_weakest 244 = .ok (.getfield 38, 3) := dk_180 0 38 (dk_at dksX5_weakest_10 9 rfl rfl)
theorem dX5_weakest_247 : decode cX5_weakest 247 = .ok (.bipush 12, 2) := dk_16 12 (dk_at dksX5_weakest_10 12 rfl rfl)
theorem dX5_weakest_249 : decode cX5_weakest 249 = .ok (.iload_n 1, 1) := dk_27 (dk_at dksX5_weakest_10 14 rfl rfl)
theorem dX5_weakest_250 : decode cX5_weakest 250 = .ok (.imul, 1) := dk_104 (dk_at dksX5_weakest_10 15 rfl rfl)
theorem dX5_weakest_251 : decode cX5_weakest 251 = .ok (.iload_n 3, 1) := dk_29 (dk_at dksX5_weakest_10 16 rfl rfl)
theorem dX5_weakest_252 : decode cX5_weakest 252 = .ok (.bipush 8, 2) := dk_16 8 (dk_at dksX5_weakest_10 17 rfl rfl)
theorem dX5_weakest_254 : decode cX5_weakest 254 = .ok (.idiv, 1) := dk_108 (dk_at dksX5_weakest_10 19 rfl rfl)
theorem dX5_weakest_255 : decode cX5_weakest 255 = .ok (.iadd, 1) := dk_96 (dk_at dksX5_weakest_10 20 rfl rfl)
theorem dX5_weakest_256 : decode cX5_weakest 256 = .ok (.iaload, 1) := dk_46 (dk_at dksX5_weakest_10 21 rfl rfl)
theorem dX5_weakest_257 : decode cX5_weakest 257 = .ok (.iconst 5, 1) := dk_8 (dk_at dksX5_weakest_10 22 rfl rfl)
theorem dX5_weakest_258 : decode cX5_weakest 258 = .ok (.if_icmp .ne 7, 3) := dk_160 0 7 (dk_at dksX5_weakest_11 0 rfl rfl)
theorem dX5_weakest_261 : decode cX5_weakest 261 = .ok (.iconst 1, 1) := dk_4 (dk_at dksX5_weakest_11 3 rfl rfl)
theorem dX5_weakest_262 : decode cX5_weakest 262 = .ok (.goto 4, 3) := dk_167 0 4 (dk_at dksX5_weakest_11 4 rfl rfl)
theorem dX5_weakest_265 : decode cX5_weakest 265 = .ok (.iconst 0, 1) := dk_3 (dk_at dksX5_weakest_11 7 rfl rfl)
theorem dX5_weakest_266 : decode cX5_weakest 266 = .ok (.istore 4, 2) := dk_54 4 (dk_at dksX5_weakest_11 8 rfl rfl)
theorem dX5_weakest_268 : decode cX5_weakest 268 = .ok (.iload 4, 2) := dk_21 4 (dk_at dksX5_weakest_11 10 rfl rfl)
theorem dX5_weakest_270 : decode cX5_weakest 270 = .ok (.ifCond .eq 29, 3) := dk_153 0 29 (dk_at dksX5_weakest_11 12 rfl rfl)
theorem dX5_weakest_273 : decode cX5_weakest 273 = .ok (.iload_n 2, 1) := dk_28 (dk_at dksX5_weakest_11 15 rfl rfl)
theorem dX5_weakest_274 : decode cX5_weakest 274 = .ok (.iconst (-1), 1) := dk_2 (dk_at dksX5_weakest_11 16 rfl rfl)
theorem dX5_weakest_275 : decode cX5_weakest 275 = .ok (.if_icmp .eq 14, 3) := dk_159 0 14 (dk_at dksX5_weakest_11 17 rfl rfl)
theorem dX5_weakest_278 : decode cX5_weakest 278 = .ok (.iload_n 3, 1) := dk_29 (dk_at dksX5_weakest_11 20 rfl rfl)
theorem dX5_weakest_279 : decode cX5_weakest 279 = .ok (.bipush 8, 2) := dk_16 8 (dk_at dksX5_weakest_11 21 rfl rfl)
theorem dX5_weakest_281 : decode cX5_weakest 281 = .ok (.irem, 1) := dk_112 (dk_at dksX5_weakest_11 23 rfl rfl)
theorem dX5_weakest_282 : decode cX5_weakest 282 = .ok (.invokestatic 309, 3) := dk_184 1 53 (dk_at dksX5_weakest_12 0 rfl rfl)
theorem dX5_weakest_285 : decode cX5_weakest 285 = .ok (.iload_n 2, 1) := dk_28 (dk_at dksX5_weakest_12 3 rfl rfl)
theorem dX5_weakest_286 : decode cX5_weakest 286 = .ok (.if_icmp .ge 13, 3) := dk_162 0 13 (dk_at dksX5_weakest_12 4 rfl rfl)
theorem dX5_weakest_289 : decode cX5_weakest 289 = .ok (.iload_n 3, 1) := dk_29 (dk_at dksX5_weakest_12 7 rfl rfl)
theorem dX5_weakest_290 : decode cX5_weakest 290 = .ok (.bipush 8, 2) := dk_16 8 (dk_at dksX5_weakest_12 8 rfl rfl)
theorem dX5_weakest_292 : decode cX5_weakest 292 = .ok (.irem, 1) := dk_112 (dk_at dksX5_weakest_12 10 rfl rfl)
theorem dX5_weakest_293 : decode cX5_weakest 293 = .ok (.invokestatic 309, 3) := dk_184 1 53 (dk_at dksX5_weakest_12 11 rfl rfl)
theorem dX5_weakest_296 : decode cX5_weakest 296 = .ok (.goto 4, 3) := dk_167 0 4 (dk_at dksX5_weakest_12 14 rfl rfl)
theorem dX5_weakest_299 : decode cX5_weakest 299 = .ok (.iload_n 2, 1) := dk_28 (dk_at dksX5_weakest_12 17 rfl rfl)
theorem dX5_weakest_300 : decode cX5_weakest 300 = .ok (.istore_n 2, 1) := dk_61 (dk_at dksX5_weakest_12 18 rfl rfl)
theorem dX5_weakest_301 : decode cX5_weakest 301 = .ok (.iinc 3 1, 3) := dk_132 3 1 (dk_at dksX5_weakest_12 19 rfl rfl)
theorem dX5_weakest_304 : decode cX5_weakest 304 = .ok (.goto (-76), 3) := dk_167 255 180 (dk_at dksX5_weakest_13 0 rfl rfl)
theorem dX5_weakest_307 : decode cX5_weakest 307 = .ok (.iload_n 2, 1) := dk_28 (dk_at dksX5_weakest_13 3 rfl rfl)
theorem dX5_weakest_308 : decode cX5_weakest 308 = .ok (.ireturn, 1) := dk_172 (dk_at dksX5_weakest_13 4 rfl rfl)
abbrev cX5_levelOf : ByteArray := prog_14_method_37_code
def yX5_levelOf : MethodName := ⟨RX5, "levelOf", "(I)I"⟩
def dkwX5_levelOf_0 : List UInt8 := [26, 4, 126, 26, 5, 126, 96, 6, 26, 5, 122, 4, 126, 104, 96, 172]
abbrev dktX5_levelOf_0 : List UInt8 := dkwX5_levelOf_0 ++ []
theorem dksX5_levelOf_0 : cX5_levelOf.data.toList.drop 0 = dktX5_levelOf_0 := by decide +kernel
theorem dX5_levelOf_0 : decode cX5_levelOf 0 = .ok (.iload_n 0, 1) := dk_26 (dk_at dksX5_levelOf_0 0 rfl rfl)
theorem dX5_levelOf_1 : decode cX5_levelOf 1 = .ok (.iconst 1, 1) := dk_4 (dk_at dksX5_levelOf_0 1 rfl rfl)
theorem dX5_levelOf_2 : decode cX5_levelOf 2 = .ok (.iand, 1) := dk_126 (dk_at dksX5_levelOf_0 2 rfl rfl)
theorem dX5_levelOf_3 : decode cX5_levelOf 3 = .ok (.iload_n 0, 1) := dk_26 (dk_at dksX5_levelOf_0 3 rfl rfl)
theorem dX5_levelOf_4 : decode cX5_levelOf 4 = .ok (.iconst 2, 1) := dk_5 (dk_at dksX5_levelOf_0 4 rfl rfl)
theorem dX5_levelOf_5 : decode cX5_levelOf 5 = .ok (.iand, 1) := dk_126 (dk_at dksX5_levelOf_0 5 rfl rfl)
theorem dX5_levelOf_6 : decode cX5_levelOf 6 = .ok (.iadd, 1) := dk_96 (dk_at dksX5_levelOf_0 6 rfl rfl)
theorem dX5_levelOf_7 : decode cX5_levelOf 7 = .ok (.iconst 3, 1) := dk_6 (dk_at dksX5_levelOf_0 7 rfl rfl)
theorem dX5_levelOf_8 : decode cX5_levelOf 8 = .ok (.iload_n 0, 1) := dk_26 (dk_at dksX5_levelOf_0 8 rfl rfl)
theorem dX5_levelOf_9 : decode cX5_levelOf 9 = .ok (.iconst 2, 1) := dk_5 (dk_at dksX5_levelOf_0 9 rfl rfl)
theorem dX5_levelOf_10 : decode cX5_levelOf 10 = .ok (.ishr, 1) := dk_122 (dk_at dksX5_levelOf_0 10 rfl rfl)
theorem dX5_levelOf_11 : decode cX5_levelOf 11 = .ok (.iconst 1, 1) := dk_4 (dk_at dksX5_levelOf_0 11 rfl rfl)
theorem dX5_levelOf_12 : decode cX5_levelOf 12 = .ok (.iand, 1) := dk_126 (dk_at dksX5_levelOf_0 12 rfl rfl)
theorem dX5_levelOf_13 : decode cX5_levelOf 13 = .ok (.imul, 1) := dk_104 (dk_at dksX5_levelOf_0 13 rfl rfl)
theorem dX5_levelOf_14 : decode cX5_levelOf 14 = .ok (.iadd, 1) := dk_96 (dk_at dksX5_levelOf_0 14 rfl rfl)
theorem dX5_levelOf_15 : decode cX5_levelOf 15 = .ok (.ireturn, 1) := dk_172 (dk_at dksX5_levelOf_0 15 rfl rfl)
abbrev cX5_meet : ByteArray := prog_14_method_38_code
def yX5_meet : MethodName := ⟨RX5, "meet", "(II)V"⟩
def dkwX5_meet_0 : List UInt8 := [27, 155, 0, 15, 42, 180, 0, 53, 16, 8, 27, 104, 28, 96, 4, 84, 177]
abbrev dktX5_meet_0 : List UInt8 := dkwX5_meet_0 ++ []
theorem dksX5_meet_0 : cX5_meet.data.toList.drop 0 = dktX5_meet_0 := by decide +kernel
theorem dX5_meet_0 : decode cX5_meet 0 = .ok (.iload_n 1, 1) := dk_27 (dk_at dksX5_meet_0 0 rfl rfl)
theorem dX5_meet_1 : decode cX5_meet 1 = .ok (.ifCond .lt 15, 3) := dk_155 0 15 (dk_at dksX5_meet_0 1 rfl rfl)
theorem dX5_meet_4 : decode cX5_meet 4 = .ok (.aload_n 0, 1) := dk_42 (dk_at dksX5_meet_0 4 rfl rfl)
theorem dX5_meet_5 : decode cX5_meet 5 = .ok (.getfield 53, 3) := dk_180 0 53 (dk_at dksX5_meet_0 5 rfl rfl)
theorem dX5_meet_8 : decode cX5_meet 8 = .ok (.bipush 8, 2) := dk_16 8 (dk_at dksX5_meet_0 8 rfl rfl)
theorem dX5_meet_10 : decode cX5_meet 10 = .ok (.iload_n 1, 1) := dk_27 (dk_at dksX5_meet_0 10 rfl rfl)
theorem dX5_meet_11 : decode cX5_meet 11 = .ok (.imul, 1) := dk_104 (dk_at dksX5_meet_0 11 rfl rfl)
theorem dX5_meet_12 : decode cX5_meet 12 = .ok (.iload_n 2, 1) := dk_28 (dk_at dksX5_meet_0 12 rfl rfl)
theorem dX5_meet_13 : decode cX5_meet 13 = .ok (.iadd, 1) := dk_96 (dk_at dksX5_meet_0 13 rfl rfl)
theorem dX5_meet_14 : decode cX5_meet 14 = .ok (.iconst 1, 1) := dk_4 (dk_at dksX5_meet_0 14 rfl rfl)
theorem dX5_meet_15 : decode cX5_meet 15 = .ok (.bastore, 1) := dk_84 (dk_at dksX5_meet_0 15 rfl rfl)
theorem dX5_meet_16 : decode cX5_meet 16 = .ok (.return_, 1) := dk_177 (dk_at dksX5_meet_0 16 rfl rfl)
abbrev cX5_points : ByteArray := prog_14_method_43_code
def yX5_points : MethodName := ⟨RX5, "points", "(IIZ)I"⟩
def dkwX5_points_3 : List UInt8 := [167, 0, 10, 42, 180, 0, 56, 27, 28, 79, 21, 4, 172]
abbrev dktX5_points_3 : List UInt8 := dkwX5_points_3 ++ []
def dkwX5_points_2 : List UInt8 := [27, 46, 167, 0, 9, 42, 180, 0, 56, 27, 46, 54, 4, 29, 153, 0, 13, 42, 180, 0, 59, 27, 28, 79]
abbrev dktX5_points_2 : List UInt8 := dkwX5_points_2 ++ dktX5_points_3
def dkwX5_points_1 : List UInt8 := [153, 0, 7, 4, 167, 0, 4, 3, 182, 0, 251, 154, 0, 5, 3, 172, 29, 153, 0, 12, 42, 180, 0, 59]
abbrev dktX5_points_1 : List UInt8 := dkwX5_points_1 ++ dktX5_points_2
def dkwX5_points_0 : List UInt8 := [42, 27, 3, 5, 184, 0, 228, 153, 0, 24, 28, 29, 153, 0, 7, 2, 167, 0, 4, 3, 8, 184, 0, 228]
abbrev dktX5_points_0 : List UInt8 := dkwX5_points_0 ++ dktX5_points_1
theorem dksX5_points_0 : cX5_points.data.toList.drop 0 = dktX5_points_0 := by decide +kernel
theorem dksX5_points_1 : cX5_points.data.toList.drop 24 = dktX5_points_1 := dk_seg dksX5_points_0 24 rfl rfl
theorem dksX5_points_2 : cX5_points.data.toList.drop 48 = dktX5_points_2 := dk_seg dksX5_points_1 24 rfl rfl
theorem dksX5_points_3 : cX5_points.data.toList.drop 72 = dktX5_points_3 := dk_seg dksX5_points_2 24 rfl rfl
theorem dX5_points_0 : decode cX5_points 0 = .ok (.aload_n 0, 1) := dk_42 (dk_at dksX5_points_0 0 rfl rfl)
theorem dX5_points_1 : decode cX5_points 1 = .ok (.iload_n 1, 1) := dk_27 (dk_at dksX5_points_0 1 rfl rfl)
theorem dX5_points_2 : decode cX5_points 2 = .ok (.iconst 0, 1) := dk_3 (dk_at dksX5_points_0 2 rfl rfl)
theorem dX5_points_3 : decode cX5_points 3 = .ok (.iconst 2, 1) := dk_5 (dk_at dksX5_points_0 3 rfl rfl)
theorem dX5_points_4 : decode cX5_points 4 = .ok (.invokestatic 228, 3) := dk_184 0 228 (dk_at dksX5_points_0 4 rfl rfl)
theorem dX5_points_7 : decode cX5_points 7 = .ok (.ifCond .eq 24, 3) := dk_153 0 24 (dk_at dksX5_points_0 7 rfl rfl)
theorem dX5_points_10 : decode cX5_points 10 = .ok (.iload_n 2, 1) := dk_28 (dk_at dksX5_points_0 10 rfl rfl)
theorem dX5_points_11 : decode cX5_points 11 = .ok (.iload_n 3, 1) := dk_29 (dk_at dksX5_points_0 11 rfl rfl)
theorem dX5_points_12 : decode cX5_points 12 = .ok (.ifCond .eq 7, 3) := dk_153 0 7 (dk_at dksX5_points_0 12 rfl rfl)
theorem dX5_points_15 : decode cX5_points 15 = .ok (.iconst (-1), 1) := dk_2 (dk_at dksX5_points_0 15 rfl rfl)
theorem dX5_points_16 : decode cX5_points 16 = .ok (.goto 4, 3) := dk_167 0 4 (dk_at dksX5_points_0 16 rfl rfl)
theorem dX5_points_19 : decode cX5_points 19 = .ok (.iconst 0, 1) := dk_3 (dk_at dksX5_points_0 19 rfl rfl)
theorem dX5_points_20 : decode cX5_points 20 = .ok (.iconst 5, 1) := dk_8 (dk_at dksX5_points_0 20 rfl rfl)
theorem dX5_points_21 : decode cX5_points 21 = .ok (.invokestatic 228, 3) := dk_184 0 228 (dk_at dksX5_points_0 21 rfl rfl)
theorem dX5_points_24 : decode cX5_points 24 = .ok (.ifCond .eq 7, 3) := dk_153 0 7 (dk_at dksX5_points_1 0 rfl rfl)
theorem dX5_points_27 : decode cX5_points 27 = .ok (.iconst 1, 1) := dk_4 (dk_at dksX5_points_1 3 rfl rfl)
theorem dX5_points_28 : decode cX5_points 28 = .ok (.goto 4, 3) := dk_167 0 4 (dk_at dksX5_points_1 4 rfl rfl)
theorem dX5_points_31 : decode cX5_points 31 = .ok (.iconst 0, 1) := dk_3 (dk_at dksX5_points_1 7 rfl rfl)
theorem dX5_points_32 : decode cX5_points 32 = .ok (.invokevirtual 251, 3) := dk_182 0 251 (dk_at dksX5_points_1 8 rfl rfl)
theorem dX5_points_35 : decode cX5_points 35 = .ok (.ifCond .ne 5, 3) := dk_154 0 5 (dk_at dksX5_points_1 11 rfl rfl)
theorem dX5_points_38 : decode cX5_points 38 = .ok (.iconst 0, 1) := dk_3 (dk_at dksX5_points_1 14 rfl rfl)
theorem dX5_points_39 : decode cX5_points 39 = .ok (.ireturn, 1) := dk_172 (dk_at dksX5_points_1 15 rfl rfl)
theorem dX5_points_40 : decode cX5_points 40 = .ok (.iload_n 3, 1) := dk_29 (dk_at dksX5_points_1 16 rfl rfl)
theorem dX5_points_41 : decode cX5_points 41 = .ok (.ifCond .eq 12, 3) := dk_153 0 12 (dk_at dksX5_points_1 17 rfl rfl)
theorem dX5_points_44 : decode cX5_points 44 = .ok (.aload_n 0, 1) := dk_42 (dk_at dksX5_points_1 20 rfl rfl)
theorem dX5_points_45 : decode cX5_points 45 = .ok (.getfield 59, 3) := dk_180 0 59 (dk_at dksX5_points_1 21 rfl rfl)
theorem dX5_points_48 : decode cX5_points 48 = .ok (.iload_n 1, 1) := dk_27 (dk_at dksX5_points_2 0 rfl rfl)
theorem dX5_points_49 : decode cX5_points 49 = .ok (.iaload, 1) := dk_46 (dk_at dksX5_points_2 1 rfl rfl)
theorem dX5_points_50 : decode cX5_points 50 = .ok (.goto 9, 3) := dk_167 0 9 (dk_at dksX5_points_2 2 rfl rfl)
theorem dX5_points_53 : decode cX5_points 53 = .ok (.aload_n 0, 1) := dk_42 (dk_at dksX5_points_2 5 rfl rfl)
theorem dX5_points_54 : decode cX5_points 54 = .ok (.getfield 56, 3) := dk_180 0 56 (dk_at dksX5_points_2 6 rfl rfl)
theorem dX5_points_57 : decode cX5_points 57 = .ok (.iload_n 1, 1) := dk_27 (dk_at dksX5_points_2 9 rfl rfl)
theorem dX5_points_58 : decode cX5_points 58 = .ok (.iaload, 1) := dk_46 (dk_at dksX5_points_2 10 rfl rfl)
theorem dX5_points_59 : decode cX5_points 59 = .ok (.istore 4, 2) := dk_54 4 (dk_at dksX5_points_2 11 rfl rfl)
theorem dX5_points_61 : decode cX5_points 61 = .ok (.iload_n 3, 1) := dk_29 (dk_at dksX5_points_2 13 rfl rfl)
theorem dX5_points_62 : decode cX5_points 62 = .ok (.ifCond .eq 13, 3) := dk_153 0 13 (dk_at dksX5_points_2 14 rfl rfl)
theorem dX5_points_65 : decode cX5_points 65 = .ok (.aload_n 0, 1) := dk_42 (dk_at dksX5_points_2 17 rfl rfl)
theorem dX5_points_66 : decode cX5_points 66 = .ok (.getfield 59, 3) := dk_180 0 59 (dk_at dksX5_points_2 18 rfl rfl)
theorem dX5_points_69 : decode cX5_points 69 = .ok (.iload_n 1, 1) := dk_27 (dk_at dksX5_points_2 21 rfl rfl)
theorem dX5_points_70 : decode cX5_points 70 = .ok (.iload_n 2, 1) := dk_28 (dk_at dksX5_points_2 22 rfl rfl)
theorem dX5_points_71 : decode cX5_points 71 = .ok (.iastore, 1) := dk_79 (dk_at dksX5_points_2 23 rfl rfl)
theorem dX5_points_72 : decode cX5_points 72 = .ok (.goto 10, 3) := dk_167 0 10 (dk_at dksX5_points_3 0 rfl rfl)
theorem dX5_points_75 : decode cX5_points 75 = .ok (.aload_n 0, 1) := dk_42 (dk_at dksX5_points_3 3 rfl rfl)
theorem dX5_points_76 : decode cX5_points 76 = .ok (.getfield 56, 3) := dk_180 0 56 (dk_at dksX5_points_3 4 rfl rfl)
theorem dX5_points_79 : decode cX5_points 79 = .ok (.iload_n 1, 1) := dk_27 (dk_at dksX5_points_3 7 rfl rfl)
theorem dX5_points_80 : decode cX5_points 80 = .ok (.iload_n 2, 1) := dk_28 (dk_at dksX5_points_3 8 rfl rfl)
theorem dX5_points_81 : decode cX5_points 81 = .ok (.iastore, 1) := dk_79 (dk_at dksX5_points_3 9 rfl rfl)
theorem dX5_points_82 : decode cX5_points 82 = .ok (.iload 4, 2) := dk_21 4 (dk_at dksX5_points_3 10 rfl rfl)
theorem dX5_points_84 : decode cX5_points 84 = .ok (.ireturn, 1) := dk_172 (dk_at dksX5_points_3 12 rfl rfl)
abbrev cX5_begin : ByteArray := prog_14_method_49_code
def yX5_begin : MethodName := ⟨RX5, "begin", "(III)I"⟩
def dkwX5_begin_7 : List UInt8 := [167, 255, 234, 42, 89, 180, 0, 232, 4, 96, 181, 0, 232, 42, 21, 5, 3, 182, 1, 82, 21, 5, 172]
abbrev dktX5_begin_7 : List UInt8 := dkwX5_begin_7 ++ []
def dkwX5_begin_6 : List UInt8 := [54, 6, 21, 6, 6, 162, 0, 22, 42, 180, 0, 89, 6, 21, 5, 104, 21, 6, 96, 2, 79, 132, 6, 1]
abbrev dktX5_begin_6 : List UInt8 := dkwX5_begin_6 ++ dktX5_begin_7
def dkwX5_begin_5 : List UInt8 := [180, 1, 47, 4, 100, 79, 42, 180, 0, 77, 21, 5, 3, 79, 42, 180, 0, 86, 21, 5, 2, 79, 3]
abbrev dktX5_begin_5 : List UInt8 := dkwX5_begin_5 ++ dktX5_begin_6
def dkwX5_begin_4 : List UInt8 := [180, 0, 65, 21, 5, 28, 79, 42, 180, 0, 68, 21, 5, 29, 79, 42, 180, 0, 71, 21, 5, 42]
abbrev dktX5_begin_4 : List UInt8 := dkwX5_begin_4 ++ dktX5_begin_5
def dkwX5_begin_3 : List UInt8 := [182, 1, 18, 154, 0, 5, 3, 172, 42, 180, 0, 232, 54, 5, 42, 180, 0, 62, 21, 5, 27, 79, 42]
abbrev dktX5_begin_3 : List UInt8 := dkwX5_begin_3 ++ dktX5_begin_4
def dkwX5_begin_2 : List UInt8 := [180, 0, 29, 27, 51, 154, 0, 16, 42, 180, 0, 232, 16, 60, 162, 0, 7, 4, 167, 0, 4, 3]
abbrev dktX5_begin_2 : List UInt8 := dkwX5_begin_2 ++ dktX5_begin_3
def dkwX5_begin_1 : List UInt8 := [167, 0, 4, 3, 54, 4, 42, 21, 4, 21, 4, 153, 0, 32, 42, 180, 1, 47, 158, 0, 25, 42]
abbrev dktX5_begin_1 : List UInt8 := dkwX5_begin_1 ++ dktX5_begin_2
def dkwX5_begin_0 : List UInt8 := [27, 184, 1, 28, 153, 0, 21, 28, 184, 1, 28, 153, 0, 14, 29, 184, 1, 28, 153, 0, 7, 4]
abbrev dktX5_begin_0 : List UInt8 := dkwX5_begin_0 ++ dktX5_begin_1
theorem dksX5_begin_0 : cX5_begin.data.toList.drop 0 = dktX5_begin_0 := by decide +kernel
theorem dksX5_begin_1 : cX5_begin.data.toList.drop 22 = dktX5_begin_1 := dk_seg dksX5_begin_0 22 rfl rfl
theorem dksX5_begin_2 : cX5_begin.data.toList.drop 44 = dktX5_begin_2 := dk_seg dksX5_begin_1 22 rfl rfl
theorem dksX5_begin_3 : cX5_begin.data.toList.drop 66 = dktX5_begin_3 := dk_seg dksX5_begin_2 22 rfl rfl
theorem dksX5_begin_4 : cX5_begin.data.toList.drop 89 = dktX5_begin_4 := dk_seg dksX5_begin_3 23 rfl rfl
theorem dksX5_begin_5 : cX5_begin.data.toList.drop 111 = dktX5_begin_5 := dk_seg dksX5_begin_4 22 rfl rfl
theorem dksX5_begin_6 : cX5_begin.data.toList.drop 134 = dktX5_begin_6 := dk_seg dksX5_begin_5 23 rfl rfl
theorem dksX5_begin_7 : cX5_begin.data.toList.drop 158 = dktX5_begin_7 := dk_seg dksX5_begin_6 24 rfl rfl
theorem dX5_begin_0 : decode cX5_begin 0 = .ok (.iload_n 1, 1) := dk_27 (dk_at dksX5_begin_0 0 rfl rfl)
theorem dX5_begin_1 : decode cX5_begin 1 = .ok (.invokestatic 284, 3) := dk_184 1 28 (dk_at dksX5_begin_0 1 rfl rfl)
theorem dX5_begin_4 : decode cX5_begin 4 = .ok (.ifCond .eq 21, 3) := dk_153 0 21 (dk_at dksX5_begin_0 4 rfl rfl)
theorem dX5_begin_7 : decode cX5_begin 7 = .ok (.iload_n 2, 1) := dk_28 (dk_at dksX5_begin_0 7 rfl rfl)
theorem dX5_begin_8 : decode cX5_begin 8 = .ok (.invokestatic 284, 3) := dk_184 1 28 (dk_at dksX5_begin_0 8 rfl rfl)
theorem dX5_begin_11 : decode cX5_begin 11 = .ok (.ifCond .eq 14, 3) := dk_153 0 14 (dk_at dksX5_begin_0 11 rfl rfl)
theorem dX5_begin_14 : decode cX5_begin 14 = .ok (.iload_n 3, 1) := dk_29 (dk_at dksX5_begin_0 14 rfl rfl)
theorem dX5_begin_15 : decode cX5_begin 15 = .ok (.invokestatic 284, 3) := dk_184 1 28 (dk_at dksX5_begin_0 15 rfl rfl)
theorem dX5_begin_18 : decode cX5_begin 18 = .ok (.ifCond .eq 7, 3) := dk_153 0 7 (dk_at dksX5_begin_0 18 rfl rfl)
theorem dX5_begin_21 : decode cX5_begin 21 = .ok (.iconst 1, 1) := dk_4 (dk_at dksX5_begin_0 21 rfl rfl)
theorem dX5_begin_22 : decode cX5_begin 22 = .ok (.goto 4, 3) := dk_167 0 4 (dk_at dksX5_begin_1 0 rfl rfl)
theorem dX5_begin_25 : decode cX5_begin 25 = .ok (.iconst 0, 1) := dk_3 (dk_at dksX5_begin_1 3 rfl rfl)
theorem dX5_begin_26 : decode cX5_begin 26 = .ok (.istore 4, 2) := dk_54 4 (dk_at dksX5_begin_1 4 rfl rfl)
theorem dX5_begin_28 : decode cX5_begin 28 = .ok (.aload_n 0, 1) := dk_42 (dk_at dksX5_begin_1 6 rfl rfl)
theorem dX5_begin_29 : decode cX5_begin 29 = .ok (.iload 4, 2) := dk_21 4 (dk_at dksX5_begin_1 7 rfl rfl)
theorem dX5_begin_31 : decode cX5_begin 31 = .ok (.iload 4, 2) := dk_21 4 (dk_at dksX5_begin_1 9 rfl rfl)
theorem dX5_begin_33 : decode cX5_begin 33 = .ok (.ifCond .eq 32, 3) := dk_153 0 32 (dk_at dksX5_begin_1 11 rfl rfl)
theorem dX5_begin_36 : decode cX5_begin 36 = .ok (.aload_n 0, 1) := dk_42 (dk_at dksX5_begin_1 14 rfl rfl)
theorem dX5_begin_37 : decode cX5_begin 37 = .ok (.getfield 303, 3) := dk_180 1 47 (dk_at dksX5_begin_1 15 rfl rfl)
theorem dX5_begin_40 : decode cX5_begin 40 = .ok (.ifCond .le 25, 3) := dk_158 0 25 (dk_at dksX5_begin_1 18 rfl rfl)
theorem dX5_begin_43 : decode cX5_begin 43 = .ok (.aload_n 0, 1) := dk_42 (dk_at dksX5_begin_1 21 rfl rfl)
theorem dX5_begin_44 : decode cX5_begin 44 = .ok (.getfield 29, 3) := dk_180 0 29 (dk_at dksX5_begin_2 0 rfl rfl)
theorem dX5_begin_47 : decode cX5_begin 47 = .ok (.iload_n 1, 1) := dk_27 (dk_at dksX5_begin_2 3 rfl rfl)
theorem dX5_begin_48 : decode cX5_begin 48 = .ok (.baload, 1) := dk_51 (dk_at dksX5_begin_2 4 rfl rfl)
theorem dX5_begin_49 : decode cX5_begin 49 = .ok (.ifCond .ne 16, 3) := dk_154 0 16 (dk_at dksX5_begin_2 5 rfl rfl)
theorem dX5_begin_52 : decode cX5_begin 52 = .ok (.aload_n 0, 1) := dk_42 (dk_at dksX5_begin_2 8 rfl rfl)
theorem dX5_begin_53 : decode cX5_begin 53 = .ok (.getfield 232, 3) := dk_180 0 232 (dk_at dksX5_begin_2 9 rfl rfl)
theorem dX5_begin_56 : decode cX5_begin 56 = .ok (.bipush 60, 2) := dk_16 60 (dk_at dksX5_begin_2 12 rfl rfl)
theorem dX5_begin_58 : decode cX5_begin 58 = .ok (.if_icmp .ge 7, 3) := dk_162 0 7 (dk_at dksX5_begin_2 14 rfl rfl)
theorem dX5_begin_61 : decode cX5_begin 61 = .ok (.iconst 1, 1) := dk_4 (dk_at dksX5_begin_2 17 rfl rfl)
theorem dX5_begin_62 : decode cX5_begin 62 = .ok (.goto 4, 3) := dk_167 0 4 (dk_at dksX5_begin_2 18 rfl rfl)
theorem dX5_begin_65 : decode cX5_begin 65 = .ok (.iconst 0, 1) := dk_3 (dk_at dksX5_begin_2 21 rfl rfl)
theorem dX5_begin_66 : decode cX5_begin 66 = .ok (.invokevirtual 274, 3) := dk_182 1 18 (dk_at dksX5_begin_3 0 rfl rfl)
theorem dX5_begin_69 : decode cX5_begin 69 = .ok (.ifCond .ne 5, 3) := dk_154 0 5 (dk_at dksX5_begin_3 3 rfl rfl)
theorem dX5_begin_72 : decode cX5_begin 72 = .ok (.iconst 0, 1) := dk_3 (dk_at dksX5_begin_3 6 rfl rfl)
theorem dX5_begin_73 : decode cX5_begin 73 = .ok (.ireturn, 1) := dk_172 (dk_at dksX5_begin_3 7 rfl rfl)
theorem dX5_begin_74 : decode cX5_begin 74 = .ok (.aload_n 0, 1) := dk_42 (dk_at dksX5_begin_3 8 rfl rfl)
theorem dX5_begin_75 : decode cX5_begin 75 = .ok (.getfield 232, 3) := dk_180 0 232 (dk_at dksX5_begin_3 9 rfl rfl)
theorem dX5_begin_78 : decode cX5_begin 78 = .ok (.istore 5, 2) := dk_54 5 (dk_at dksX5_begin_3 12 rfl rfl)
theorem dX5_begin_80 : decode cX5_begin 80 = .ok (.aload_n 0, 1) := dk_42 (dk_at dksX5_begin_3 14 rfl rfl)
theorem dX5_begin_81 : decode cX5_begin 81 = .ok (.getfield 62, 3) := dk_180 0 62 (dk_at dksX5_begin_3 15 rfl rfl)
theorem dX5_begin_84 : decode cX5_begin 84 = .ok (.iload 5, 2) := dk_21 5 (dk_at dksX5_begin_3 18 rfl rfl)
theorem dX5_begin_86 : decode cX5_begin 86 = .ok (.iload_n 1, 1) := dk_27 (dk_at dksX5_begin_3 20 rfl rfl)
theorem dX5_begin_87 : decode cX5_begin 87 = .ok (.iastore, 1) := dk_79 (dk_at dksX5_begin_3 21 rfl rfl)
theorem dX5_begin_88 : decode cX5_begin 88 = .ok (.aload_n 0, 1) := dk_42 (dk_at dksX5_begin_3 22 rfl rfl)
theorem dX5_begin_89 : decode cX5_begin 89 = .ok (.getfield 65, 3) := dk_180 0 65 (dk_at dksX5_begin_4 0 rfl rfl)
theorem dX5_begin_92 : decode cX5_begin 92 = .ok (.iload 5, 2) := dk_21 5 (dk_at dksX5_begin_4 3 rfl rfl)
theorem dX5_begin_94 : decode cX5_begin 94 = .ok (.iload_n 2, 1) := dk_28 (dk_at dksX5_begin_4 5 rfl rfl)
theorem dX5_begin_95 : decode cX5_begin 95 = .ok (.iastore, 1) := dk_79 (dk_at dksX5_begin_4 6 rfl rfl)
theorem dX5_begin_96 : decode cX5_begin 96 = .ok (.aload_n 0, 1) := dk_42 (dk_at dksX5_begin_4 7 rfl rfl)
theorem dX5_begin_97 : decode cX5_begin 97 = .ok (.getfield 68, 3) := dk_180 0 68 (dk_at dksX5_begin_4 8 rfl rfl)
theorem dX5_begin_100 : decode cX5_begin 100 = .ok (.iload 5, 2) := dk_21 5 (dk_at dksX5_begin_4 11 rfl rfl)
theorem dX5_begin_102 : decode cX5_begin 102 = .ok (.iload_n 3, 1) := dk_29 (dk_at dksX5_begin_4 13 rfl rfl)
theorem dX5_begin_103 : decode cX5_begin 103 = .ok (.iastore, 1) := dk_79 (dk_at dksX5_begin_4 14 rfl rfl)
theorem dX5_begin_104 : decode cX5_begin 104 = .ok (.aload_n 0, 1) := dk_42 (dk_at dksX5_begin_4 15 rfl rfl)
theorem dX5_begin_105 : decode cX5_begin 105 = .ok (.getfield 71, 3) := dk_180 0 71 (dk_at dksX5_begin_4 16 rfl rfl)
theorem dX5_begin_108 : decode cX5_begin 108 = .ok (.iload 5, 2) := dk_21 5 (dk_at dksX5_begin_4 19 rfl rfl)
theorem dX5_begin_110 : decode cX5_begin 110 = .ok (.aload_n 0, 1) := dk_42 (dk_at dksX5_begin_4 21 rfl rfl)
theorem dX5_begin_111 : decode cX5_begin 111 = .ok (.getfield 303, 3) := dk_180 1 47 (dk_at dksX5_begin_5 0 rfl rfl)
theorem dX5_begin_114 : decode cX5_begin 114 = .ok (.iconst 1, 1) := dk_4 (dk_at dksX5_begin_5 3 rfl rfl)
theorem dX5_begin_115 : decode cX5_begin 115 = .ok (.isub, 1) := dk_100 (dk_at dksX5_begin_5 4 rfl rfl)
theorem dX5_begin_116 : decode cX5_begin 116 = .ok (.iastore, 1) := dk_79 (dk_at dksX5_begin_5 5 rfl rfl)
theorem dX5_begin_117 : decode cX5_begin 117 = .ok (.aload_n 0, 1) := dk_42 (dk_at dksX5_begin_5 6 rfl rfl)
theorem dX5_begin_118 : decode cX5_begin 118 = .ok (.getfield 77, 3) := dk_180 0 77 (dk_at dksX5_begin_5 7 rfl rfl)
theorem dX5_begin_121 : decode cX5_begin 121 = .ok (.iload 5, 2) := dk_21 5 (dk_at dksX5_begin_5 10 rfl rfl)
theorem dX5_begin_123 : decode cX5_begin 123 = .ok (.iconst 0, 1) := dk_3 (dk_at dksX5_begin_5 12 rfl rfl)
theorem dX5_begin_124 : decode cX5_begin 124 = .ok (.iastore, 1) := dk_79 (dk_at dksX5_begin_5 13 rfl rfl)
theorem dX5_begin_125 : decode cX5_begin 125 = .ok (.aload_n 0, 1) := dk_42 (dk_at dksX5_begin_5 14 rfl rfl)
theorem dX5_begin_126 : decode cX5_begin 126 = .ok (.getfield 86, 3) := dk_180 0 86 (dk_at dksX5_begin_5 15 rfl rfl)
theorem dX5_begin_129 : decode cX5_begin 129 = .ok (.iload 5, 2) := dk_21 5 (dk_at dksX5_begin_5 18 rfl rfl)
theorem dX5_begin_131 : decode cX5_begin 131 = .ok (.iconst (-1), 1) := dk_2 (dk_at dksX5_begin_5 20 rfl rfl)
theorem dX5_begin_132 : decode cX5_begin 132 = .ok (.iastore, 1) := dk_79 (dk_at dksX5_begin_5 21 rfl rfl)
theorem dX5_begin_133 : decode cX5_begin 133 = .ok (.iconst 0, 1) := dk_3 (dk_at dksX5_begin_5 22 rfl rfl)
theorem dX5_begin_134 : decode cX5_begin 134 = .ok (.istore 6, 2) := dk_54 6 (dk_at dksX5_begin_6 0 rfl rfl)
theorem dX5_begin_136 : decode cX5_begin 136 = .ok (.iload 6, 2) := dk_21 6 (dk_at dksX5_begin_6 2 rfl rfl)
theorem dX5_begin_138 : decode cX5_begin 138 = .ok (.iconst 3, 1) := dk_6 (dk_at dksX5_begin_6 4 rfl rfl)
theorem dX5_begin_139 : decode cX5_begin 139 = .ok (.if_icmp .ge 22, 3) := dk_162 0 22 (dk_at dksX5_begin_6 5 rfl rfl)
theorem dX5_begin_142 : decode cX5_begin 142 = .ok (.aload_n 0, 1) := dk_42 (dk_at dksX5_begin_6 8 rfl rfl)
theorem dX5_begin_143 : decode cX5_begin 143 = .ok (.getfield 89, 3) := dk_180 0 89 (dk_at dksX5_begin_6 9 rfl rfl)
theorem dX5_begin_146 : decode cX5_begin 146 = .ok (.iconst 3, 1) := dk_6 (dk_at dksX5_begin_6 12 rfl rfl)
theorem dX5_begin_147 : decode cX5_begin 147 = .ok (.iload 5, 2) := dk_21 5 (dk_at dksX5_begin_6 13 rfl rfl)
theorem dX5_begin_149 : decode cX5_begin 149 = .ok (.imul, 1) := dk_104 (dk_at dksX5_begin_6 15 rfl rfl)
theorem dX5_begin_150 : decode cX5_begin 150 = .ok (.iload 6, 2) := dk_21 6 (dk_at dksX5_begin_6 16 rfl rfl)
theorem dX5_begin_152 : decode cX5_begin 152 = .ok (.iadd, 1) := dk_96 (dk_at dksX5_begin_6 18 rfl rfl)
theorem dX5_begin_153 : decode cX5_begin 153 = .ok (.iconst (-1), 1) := dk_2 (dk_at dksX5_begin_6 19 rfl rfl)
theorem dX5_begin_154 : decode cX5_begin 154 = .ok (.iastore, 1) := dk_79 (dk_at dksX5_begin_6 20 rfl rfl)
theorem dX5_begin_155 : decode cX5_begin 155 = .ok (.iinc 6 1, 3) := dk_132 6 1 (dk_at dksX5_begin_6 21 rfl rfl)
theorem dX5_begin_158 : decode cX5_begin 158 = .ok (.goto (-22), 3) := dk_167 255 234 (dk_at dksX5_begin_7 0 rfl rfl)
theorem dX5_begin_161 : decode cX5_begin 161 = .ok (.aload_n 0, 1) := dk_42 (dk_at dksX5_begin_7 3 rfl rfl)
theorem dX5_begin_162 : decode cX5_begin 162 = .ok (.dup, 1) := dk_89 (dk_at dksX5_begin_7 4 rfl rfl)
theorem dX5_begin_163 : decode cX5_begin 163 = .ok (.getfield 232, 3) := dk_180 0 232 (dk_at dksX5_begin_7 5 rfl rfl)
theorem dX5_begin_166 : decode cX5_begin 166 = .ok (.iconst 1, 1) := dk_4 (dk_at dksX5_begin_7 8 rfl rfl)
theorem dX5_begin_167 : decode cX5_begin 167 = .ok (.iadd, 1) := dk_96 (dk_at dksX5_begin_7 9 rfl rfl)
theorem dX5_begin_168 : decode cX5_begin 168 = .ok (.putfield 232, 3) := dk_181 0 232 (dk_at dksX5_begin_7 10 rfl rfl)
theorem dX5_begin_171 : decode cX5_begin 171 = .ok (.aload_n 0, 1) := dk_42 (dk_at dksX5_begin_7 13 rfl rfl)
theorem dX5_begin_172 : decode cX5_begin 172 = .ok (.iload 5, 2) := dk_21 5 (dk_at dksX5_begin_7 14 rfl rfl)
theorem dX5_begin_174 : decode cX5_begin 174 = .ok (.iconst 0, 1) := dk_3 (dk_at dksX5_begin_7 16 rfl rfl)
theorem dX5_begin_175 : decode cX5_begin 175 = .ok (.invokevirtual 338, 3) := dk_182 1 82 (dk_at dksX5_begin_7 17 rfl rfl)
theorem dX5_begin_178 : decode cX5_begin 178 = .ok (.iload 5, 2) := dk_21 5 (dk_at dksX5_begin_7 20 rfl rfl)
theorem dX5_begin_180 : decode cX5_begin 180 = .ok (.ireturn, 1) := dk_172 (dk_at dksX5_begin_7 22 rfl rfl)
abbrev cX5_go : ByteArray := prog_14_method_48_code
def yX5_go : MethodName := ⟨RX5, "go", "(II)V"⟩
def dkwX5_go_5 : List UInt8 := [167, 0, 19, 42, 180, 0, 38, 21, 4, 46, 8, 160, 0, 8, 42, 27, 182, 1, 79, 177]
abbrev dktX5_go_5 : List UInt8 := dkwX5_go_5 ++ []
def dkwX5_go_4 : List UInt8 := [159, 0, 15, 42, 180, 0, 38, 21, 4, 46, 16, 6, 160, 0, 13, 42, 180, 0, 77, 27, 5, 79]
abbrev dktX5_go_4 : List UInt8 := dkwX5_go_4 ++ dktX5_go_5
def dkwX5_go_3 : List UInt8 := [96, 54, 4, 167, 255, 197, 42, 180, 0, 74, 27, 29, 79, 42, 180, 0, 80, 27, 3, 79, 29, 2]
abbrev dktX5_go_3 : List UInt8 := dkwX5_go_3 ++ dktX5_go_4
def dkwX5_go_2 : List UInt8 := [21, 4, 46, 167, 0, 10, 42, 180, 0, 50, 21, 4, 46, 62, 16, 12, 42, 180, 0, 71, 27, 46, 104, 29]
abbrev dktX5_go_2 : List UInt8 := dkwX5_go_2 ++ dktX5_go_3
def dkwX5_go_1 : List UInt8 := [21, 4, 46, 184, 1, 44, 153, 0, 47, 42, 27, 21, 4, 182, 1, 76, 153, 0, 13, 42, 180, 0, 47]
abbrev dktX5_go_1 : List UInt8 := dkwX5_go_1 ++ dktX5_go_2
def dkwX5_go_0 : List UInt8 := [28, 62, 16, 12, 42, 180, 0, 71, 27, 46, 104, 29, 96, 54, 4, 29, 2, 159, 0, 60, 42, 180, 0, 38]
abbrev dktX5_go_0 : List UInt8 := dkwX5_go_0 ++ dktX5_go_1
theorem dksX5_go_0 : cX5_go.data.toList.drop 0 = dktX5_go_0 := by decide +kernel
theorem dksX5_go_1 : cX5_go.data.toList.drop 24 = dktX5_go_1 := dk_seg dksX5_go_0 24 rfl rfl
theorem dksX5_go_2 : cX5_go.data.toList.drop 47 = dktX5_go_2 := dk_seg dksX5_go_1 23 rfl rfl
theorem dksX5_go_3 : cX5_go.data.toList.drop 71 = dktX5_go_3 := dk_seg dksX5_go_2 24 rfl rfl
theorem dksX5_go_4 : cX5_go.data.toList.drop 93 = dktX5_go_4 := dk_seg dksX5_go_3 22 rfl rfl
theorem dksX5_go_5 : cX5_go.data.toList.drop 115 = dktX5_go_5 := dk_seg dksX5_go_4 22 rfl rfl
theorem dX5_go_0 : decode cX5_go 0 = .ok (.iload_n 2, 1) := dk_28 (dk_at dksX5_go_0 0 rfl rfl)
theorem dX5_go_1 : decode cX5_go 1 = .ok (.istore_n 3, 1) := dk_62 (dk_at dksX5_go_0 1 rfl rfl)
theorem dX5_go_2 : decode cX5_go 2 = .ok (.bipush 12, 2) := dk_16 12 (dk_at dksX5_go_0 2 rfl rfl)
theorem dX5_go_4 : decode cX5_go 4 = .ok (.aload_n 0, 1) := dk_42 (dk_at dksX5_go_0 4 rfl rfl)
theorem dX5_go_5 : decode cX5_go 5 = .ok (.getfield 71, 3) := dk_180 0 71 (dk_at dksX5_go_0 5 rfl rfl)
theorem dX5_go_8 : decode cX5_go 8 = .ok (.iload_n 1, 1) := dk_27 (dk_at dksX5_go_0 8 rfl rfl)
theorem dX5_go_9 : decode cX5_go 9 = .ok (.iaload, 1) := dk_46 (dk_at dksX5_go_0 9 rfl rfl)
theorem dX5_go_10 : decode cX5_go 10 = .ok (.imul, 1) := dk_104 (dk_at dksX5_go_0 10 rfl rfl)
theorem dX5_go_11 : decode cX5_go 11 = .ok (.iload_n 3, 1) := dk_29 (dk_at dksX5_go_0 11 rfl rfl)
theorem dX5_go_12 : decode cX5_go 12 = .ok (.iadd, 1) := dk_96 (dk_at dksX5_go_0 12 rfl rfl)
theorem dX5_go_13 : decode cX5_go 13 = .ok (.istore 4, 2) := dk_54 4 (dk_at dksX5_go_0 13 rfl rfl)
theorem dX5_go_15 : decode cX5_go 15 = .ok (.iload_n 3, 1) := dk_29 (dk_at dksX5_go_0 15 rfl rfl)
theorem dX5_go_16 : decode cX5_go 16 = .ok (.iconst (-1), 1) := dk_2 (dk_at dksX5_go_0 16 rfl rfl)
theorem dX5_go_17 : decode cX5_go 17 = .ok (.if_icmp .eq 60, 3) := dk_159 0 60 (dk_at dksX5_go_0 17 rfl rfl)
theorem dX5_go_20 : decode cX5_go 20 = .ok (.aload_n 0, 1) := dk_42 (dk_at dksX5_go_0 20 rfl rfl)
theorem dX5_go_21 : decode cX5_go 21 = .ok (.getfield 38, 3) := dk_180 0 38 (dk_at dksX5_go_0 21 rfl rfl)
theorem dX5_go_24 : decode cX5_go 24 = .ok (.iload 4, 2) := dk_21 4 (dk_at dksX5_go_1 0 rfl rfl)
theorem dX5_go_26 : decode cX5_go 26 = .ok (.iaload, 1) := dk_46 (dk_at dksX5_go_1 2 rfl rfl)
theorem dX5_go_27 : decode cX5_go 27 = .ok (.invokestatic 300, 3) := dk_184 1 44 (dk_at dksX5_go_1 3 rfl rfl)
theorem dX5_go_30 : decode cX5_go 30 = .ok (.ifCond .eq 47, 3) := dk_153 0 47 (dk_at dksX5_go_1 6 rfl rfl)
theorem dX5_go_33 : decode cX5_go 33 = .ok (.aload_n 0, 1) := dk_42 (dk_at dksX5_go_1 9 rfl rfl)
theorem dX5_go_34 : decode cX5_go 34 = .ok (.iload_n 1, 1) := dk_27 (dk_at dksX5_go_1 10 rfl rfl)
theorem dX5_go_35 : decode cX5_go 35 = .ok (.iload 4, 2) := dk_21 4 (dk_at dksX5_go_1 11 rfl rfl)
theorem dX5_go_37 : decode cX5_go 37 = .ok (.invokevirtual 332, 3) := dk_182 1 76 (dk_at dksX5_go_1 13 rfl rfl)
theorem dX5_go_40 : decode cX5_go 40 = .ok (.ifCond .eq 13, 3) := dk_153 0 13 (dk_at dksX5_go_1 16 rfl rfl)
theorem dX5_go_43 : decode cX5_go 43 = .ok (.aload_n 0, 1) := dk_42 (dk_at dksX5_go_1 19 rfl rfl)
theorem dX5_go_44 : decode cX5_go 44 = .ok (.getfield 47, 3) := dk_180 0 47 (dk_at dksX5_go_1 20 rfl rfl)
theorem dX5_go_47 : decode cX5_go 47 = .ok (.iload 4, 2) := dk_21 4 (dk_at dksX5_go_2 0 rfl rfl)
theorem dX5_go_49 : decode cX5_go 49 = .ok (.iaload, 1) := dk_46 (dk_at dksX5_go_2 2 rfl rfl)
theorem dX5_go_50 : decode cX5_go 50 = .ok (.goto 10, 3) := dk_167 0 10 (dk_at dksX5_go_2 3 rfl rfl)
theorem dX5_go_53 : decode cX5_go 53 = .ok (.aload_n 0, 1) := dk_42 (dk_at dksX5_go_2 6 rfl rfl)
theorem dX5_go_54 : decode cX5_go 54 = .ok (.getfield 50, 3) := dk_180 0 50 (dk_at dksX5_go_2 7 rfl rfl)
theorem dX5_go_57 : decode cX5_go 57 = .ok (.iload 4, 2) := dk_21 4 (dk_at dksX5_go_2 10 rfl rfl)
theorem dX5_go_59 : decode cX5_go 59 = .ok (.iaload, 1) := dk_46 (dk_at dksX5_go_2 12 rfl rfl)
theorem dX5_go_60 : decode cX5_go 60 = .ok (.istore_n 3, 1) := dk_62 (dk_at dksX5_go_2 13 rfl rfl)
theorem dX5_go_61 : decode cX5_go 61 = .ok (.bipush 12, 2) := dk_16 12 (dk_at dksX5_go_2 14 rfl rfl)
theorem dX5_go_63 : decode cX5_go 63 = .ok (.aload_n 0, 1) := dk_42 (dk_at dksX5_go_2 16 rfl rfl)
theorem dX5_go_64 : decode cX5_go 64 = .ok (.getfield 71, 3) := dk_180 0 71 (dk_at dksX5_go_2 17 rfl rfl)
theorem dX5_go_67 : decode cX5_go 67 = .ok (.iload_n 1, 1) := dk_27 (dk_at dksX5_go_2 20 rfl rfl)
theorem dX5_go_68 : decode cX5_go 68 = .ok (.iaload, 1) := dk_46 (dk_at dksX5_go_2 21 rfl rfl)
theorem dX5_go_69 : decode cX5_go 69 = .ok (.imul, 1) := dk_104 (dk_at dksX5_go_2 22 rfl rfl)
theorem dX5_go_70 : decode cX5_go 70 = .ok (.iload_n 3, 1) := dk_29 (dk_at dksX5_go_2 23 rfl rfl)
theorem dX5_go_71 : decode cX5_go 71 = .ok (.iadd, 1) := dk_96 (dk_at dksX5_go_3 0 rfl rfl)
theorem dX5_go_72 : decode cX5_go 72 = .ok (.istore 4, 2) := dk_54 4 (dk_at dksX5_go_3 1 rfl rfl)
theorem dX5_go_74 : decode cX5_go 74 = .ok (.goto (-59), 3) := dk_167 255 197 (dk_at dksX5_go_3 3 rfl rfl)
theorem dX5_go_77 : decode cX5_go 77 = .ok (.aload_n 0, 1) := dk_42 (dk_at dksX5_go_3 6 rfl rfl)
theorem dX5_go_78 : decode cX5_go 78 = .ok (.getfield 74, 3) := dk_180 0 74 (dk_at dksX5_go_3 7 rfl rfl)
theorem dX5_go_81 : decode cX5_go 81 = .ok (.iload_n 1, 1) := dk_27 (dk_at dksX5_go_3 10 rfl rfl)
theorem dX5_go_82 : decode cX5_go 82 = .ok (.iload_n 3, 1) := dk_29 (dk_at dksX5_go_3 11 rfl rfl)
theorem dX5_go_83 : decode cX5_go 83 = .ok (.iastore, 1) := dk_79 (dk_at dksX5_go_3 12 rfl rfl)
theorem dX5_go_84 : decode cX5_go 84 = .ok (.aload_n 0, 1) := dk_42 (dk_at dksX5_go_3 13 rfl rfl)
theorem dX5_go_85 : decode cX5_go 85 = .ok (.getfield 80, 3) := dk_180 0 80 (dk_at dksX5_go_3 14 rfl rfl)
theorem dX5_go_88 : decode cX5_go 88 = .ok (.iload_n 1, 1) := dk_27 (dk_at dksX5_go_3 17 rfl rfl)
theorem dX5_go_89 : decode cX5_go 89 = .ok (.iconst 0, 1) := dk_3 (dk_at dksX5_go_3 18 rfl rfl)
theorem dX5_go_90 : decode cX5_go 90 = .ok (.iastore, 1) := dk_79 (dk_at dksX5_go_3 19 rfl rfl)
theorem dX5_go_91 : decode cX5_go 91 = .ok (.iload_n 3, 1) := dk_29 (dk_at dksX5_go_3 20 rfl rfl)
theorem dX5_go_92 : decode cX5_go 92 = .ok (.iconst (-1), 1) := dk_2 (dk_at dksX5_go_3 21 rfl rfl)
theorem dX5_go_93 : decode cX5_go 93 = .ok (.if_icmp .eq 15, 3) := dk_159 0 15 (dk_at dksX5_go_4 0 rfl rfl)
theorem dX5_go_96 : decode cX5_go 96 = .ok (.aload_n 0, 1) := dk_42 (dk_at dksX5_go_4 3 rfl rfl)
theorem dX5_go_97 : decode cX5_go 97 = .ok (.getfield 38, 3) := dk_180 0 38 (dk_at dksX5_go_4 4 rfl rfl)
theorem dX5_go_100 : decode cX5_go 100 = .ok (.iload 4, 2) := dk_21 4 (dk_at dksX5_go_4 7 rfl rfl)
theorem dX5_go_102 : decode cX5_go 102 = .ok (.iaload, 1) := dk_46 (dk_at dksX5_go_4 9 rfl rfl)
theorem dX5_go_103 : decode cX5_go 103 = .ok (.bipush 6, 2) := dk_16 6 (dk_at dksX5_go_4 10 rfl rfl)
theorem dX5_go_105 : decode cX5_go 105 = .ok (.if_icmp .ne 13, 3) := dk_160 0 13 (dk_at dksX5_go_4 12 rfl rfl)
theorem dX5_go_108 : decode cX5_go 108 = .ok (.aload_n 0, 1) := dk_42 (dk_at dksX5_go_4 15 rfl rfl)
theorem dX5_go_109 : decode cX5_go 109 = .ok (.getfield 77, 3) := dk_180 0 77 (dk_at dksX5_go_4 16 rfl rfl)
theorem dX5_go_112 : decode cX5_go 112 = .ok (.iload_n 1, 1) := dk_27 (dk_at dksX5_go_4 19 rfl rfl)
theorem dX5_go_113 : decode cX5_go 113 = .ok (.iconst 2, 1) := dk_5 (dk_at dksX5_go_4 20 rfl rfl)
theorem dX5_go_114 : decode cX5_go 114 = .ok (.iastore, 1) := dk_79 (dk_at dksX5_go_4 21 rfl rfl)
theorem dX5_go_115 : decode cX5_go 115 = .ok (.goto 19, 3) := dk_167 0 19 (dk_at dksX5_go_5 0 rfl rfl)
theorem dX5_go_118 : decode cX5_go 118 = .ok (.aload_n 0, 1) := dk_42 (dk_at dksX5_go_5 3 rfl rfl)
theorem dX5_go_119 : decode cX5_go 119 = .ok (.getfield 38, 3) := dk_180 0 38 (dk_at dksX5_go_5 4 rfl rfl)
theorem dX5_go_122 : decode cX5_go 122 = .ok (.iload 4, 2) := dk_21 4 (dk_at dksX5_go_5 7 rfl rfl)
theorem dX5_go_124 : decode cX5_go 124 = .ok (.iaload, 1) := dk_46 (dk_at dksX5_go_5 9 rfl rfl)
theorem dX5_go_125 : decode cX5_go 125 = .ok (.iconst 5, 1) := dk_8 (dk_at dksX5_go_5 10 rfl rfl)
theorem dX5_go_126 : decode cX5_go 126 = .ok (.if_icmp .ne 8, 3) := dk_160 0 8 (dk_at dksX5_go_5 11 rfl rfl)
theorem dX5_go_129 : decode cX5_go 129 = .ok (.aload_n 0, 1) := dk_42 (dk_at dksX5_go_5 14 rfl rfl)
theorem dX5_go_130 : decode cX5_go 130 = .ok (.iload_n 1, 1) := dk_27 (dk_at dksX5_go_5 15 rfl rfl)
theorem dX5_go_131 : decode cX5_go 131 = .ok (.invokevirtual 335, 3) := dk_182 1 79 (dk_at dksX5_go_5 16 rfl rfl)
theorem dX5_go_134 : decode cX5_go 134 = .ok (.return_, 1) := dk_177 (dk_at dksX5_go_5 19 rfl rfl)
abbrev cX5_holds : ByteArray := prog_14_method_45_code
def yX5_holds : MethodName := ⟨RX5, "holds", "(II)Z"⟩
def dkwX5_holds_5 : List UInt8 := [4, 167, 0, 4, 3, 172]
abbrev dktX5_holds_5 : List UInt8 := dkwX5_holds_5 ++ []
def dkwX5_holds_4 : List UInt8 := [167, 0, 29, 3, 167, 0, 25, 42, 27, 182, 1, 69, 184, 1, 53, 42, 180, 0, 41, 28, 46, 161, 0, 7]
abbrev dktX5_holds_4 : List UInt8 := dkwX5_holds_4 ++ dktX5_holds_5
def dkwX5_holds_3 : List UInt8 := [6, 160, 0, 30, 42, 180, 0, 7, 6, 29, 104, 42, 180, 0, 41, 28, 46, 96, 46, 4, 160, 0, 7, 4]
abbrev dktX5_holds_3 : List UInt8 := dkwX5_holds_3 ++ dktX5_holds_4
def dkwX5_holds_2 : List UInt8 := [182, 1, 66, 42, 180, 0, 41, 28, 46, 161, 0, 7, 4, 167, 0, 4, 3, 172, 42, 180, 0, 38, 28, 46]
abbrev dktX5_holds_2 : List UInt8 := dkwX5_holds_2 ++ dktX5_holds_3
def dkwX5_holds_1 : List UInt8 := [104, 42, 180, 0, 65, 27, 46, 96, 51, 172, 42, 180, 0, 38, 28, 46, 5, 160, 0, 24, 42, 27, 3]
abbrev dktX5_holds_1 : List UInt8 := dkwX5_holds_1 ++ dktX5_holds_2
def dkwX5_holds_0 : List UInt8 := [42, 180, 0, 62, 27, 46, 62, 42, 180, 0, 38, 28, 46, 4, 160, 0, 20, 42, 180, 0, 22, 16, 6, 29]
abbrev dktX5_holds_0 : List UInt8 := dkwX5_holds_0 ++ dktX5_holds_1
theorem dksX5_holds_0 : cX5_holds.data.toList.drop 0 = dktX5_holds_0 := by decide +kernel
theorem dksX5_holds_1 : cX5_holds.data.toList.drop 24 = dktX5_holds_1 := dk_seg dksX5_holds_0 24 rfl rfl
theorem dksX5_holds_2 : cX5_holds.data.toList.drop 47 = dktX5_holds_2 := dk_seg dksX5_holds_1 23 rfl rfl
theorem dksX5_holds_3 : cX5_holds.data.toList.drop 71 = dktX5_holds_3 := dk_seg dksX5_holds_2 24 rfl rfl
theorem dksX5_holds_4 : cX5_holds.data.toList.drop 95 = dktX5_holds_4 := dk_seg dksX5_holds_3 24 rfl rfl
theorem dksX5_holds_5 : cX5_holds.data.toList.drop 119 = dktX5_holds_5 := dk_seg dksX5_holds_4 24 rfl rfl
theorem dX5_holds_0 : decode cX5_holds 0 = .ok (.aload_n 0, 1) := dk_42 (dk_at dksX5_holds_0 0 rfl rfl)
theorem dX5_holds_1 : decode cX5_holds 1 = .ok (.getfield 62, 3) := dk_180 0 62 (dk_at dksX5_holds_0 1 rfl rfl)
theorem dX5_holds_4 : decode cX5_holds 4 = .ok (.iload_n 1, 1) := dk_27 (dk_at dksX5_holds_0 4 rfl rfl)
theorem dX5_holds_5 : decode cX5_holds 5 = .ok (.iaload, 1) := dk_46 (dk_at dksX5_holds_0 5 rfl rfl)
theorem dX5_holds_6 : decode cX5_holds 6 = .ok (.istore_n 3, 1) := dk_62 (dk_at dksX5_holds_0 6 rfl rfl)
theorem dX5_holds_7 : decode cX5_holds 7 = .ok (.aload_n 0, 1) := dk_42 (dk_at dksX5_holds_0 7 rfl rfl)
theorem dX5_holds_8 : decode cX5_holds 8 = .ok (.getfield 38, 3) := dk_180 0 38 (dk_at dksX5_holds_0 8 rfl rfl)
theorem dX5_holds_11 : decode cX5_holds 11 = .ok (.iload_n 2, 1) := dk_28 (dk_at dksX5_holds_0 11 rfl rfl)
theorem dX5_holds_12 : decode cX5_holds 12 = .ok (.iaload, 1) := dk_46 (dk_at dksX5_holds_0 12 rfl rfl)
theorem dX5_holds_13 : decode cX5_holds 13 = .ok (.iconst 1, 1) := dk_4 (dk_at dksX5_holds_0 13 rfl rfl)
theorem dX5_holds_14 : decode cX5_holds 14 = .ok (.if_icmp .ne 20, 3) := dk_160 0 20 (dk_at dksX5_holds_0 14 rfl rfl)
theorem dX5_holds_17 : decode cX5_holds 17 = .ok (.aload_n 0, 1) := dk_42 (dk_at dksX5_holds_0 17 rfl rfl)
theorem dX5_holds_18 : decode cX5_holds 18 = .ok (.getfield 22, 3) := dk_180 0 22 (dk_at dksX5_holds_0 18 rfl rfl)
theorem dX5_holds_21 : decode cX5_holds 21 = .ok (.bipush 6, 2) := dk_16 6 (dk_at dksX5_holds_0 21 rfl rfl)
theorem dX5_holds_23 : decode cX5_holds 23 = .ok (.iload_n 3, 1) := dk_29 (dk_at dksX5_holds_0 23 rfl rfl)
theorem dX5_holds_24 : decode cX5_holds 24 = .ok (.imul, 1) := dk_104 (dk_at dksX5_holds_1 0 rfl rfl)
theorem dX5_holds_25 : decode cX5_holds 25 = .ok (.aload_n 0, 1) := dk_42 (dk_at dksX5_holds_1 1 rfl rfl)
theorem dX5_holds_26 : decode cX5_holds 26 = .ok (.getfield 65, 3) := dk_180 0 65 (dk_at dksX5_holds_1 2 rfl rfl)
theorem dX5_holds_29 : decode cX5_holds 29 = .ok (.iload_n 1, 1) := dk_27 (dk_at dksX5_holds_1 5 rfl rfl)
theorem dX5_holds_30 : decode cX5_holds 30 = .ok (.iaload, 1) := dk_46 (dk_at dksX5_holds_1 6 rfl rfl)
theorem dX5_holds_31 : decode cX5_holds 31 = .ok (.iadd, 1) := dk_96 (dk_at dksX5_holds_1 7 rfl rfl)
theorem dX5_holds_32 : decode cX5_holds 32 = .ok (.baload, 1) := dk_51 (dk_at dksX5_holds_1 8 rfl rfl)
theorem dX5_holds_33 : decode cX5_holds 33 = .ok (.ireturn, 1) := dk_172 (dk_at dksX5_holds_1 9 rfl rfl)
theorem dX5_holds_34 : decode cX5_holds 34 = .ok (.aload_n 0, 1) := dk_42 (dk_at dksX5_holds_1 10 rfl rfl)
theorem dX5_holds_35 : decode cX5_holds 35 = .ok (.getfield 38, 3) := dk_180 0 38 (dk_at dksX5_holds_1 11 rfl rfl)
theorem dX5_holds_38 : decode cX5_holds 38 = .ok (.iload_n 2, 1) := dk_28 (dk_at dksX5_holds_1 14 rfl rfl)
theorem dX5_holds_39 : decode cX5_holds 39 = .ok (.iaload, 1) := dk_46 (dk_at dksX5_holds_1 15 rfl rfl)
theorem dX5_holds_40 : decode cX5_holds 40 = .ok (.iconst 2, 1) := dk_5 (dk_at dksX5_holds_1 16 rfl rfl)
theorem dX5_holds_41 : decode cX5_holds 41 = .ok (.if_icmp .ne 24, 3) := dk_160 0 24 (dk_at dksX5_holds_1 17 rfl rfl)
theorem dX5_holds_44 : decode cX5_holds 44 = .ok (.aload_n 0, 1) := dk_42 (dk_at dksX5_holds_1 20 rfl rfl)
theorem dX5_holds_45 : decode cX5_holds 45 = .ok (.iload_n 1, 1) := dk_27 (dk_at dksX5_holds_1 21 rfl rfl)
theorem dX5_holds_46 : decode cX5_holds 46 = .ok (.iconst 0, 1) := dk_3 (dk_at dksX5_holds_1 22 rfl rfl)
theorem dX5_holds_47 : decode cX5_holds 47 = .ok (.invokevirtual 322, 3) := dk_182 1 66 (dk_at dksX5_holds_2 0 rfl rfl)
theorem dX5_holds_50 : decode cX5_holds 50 = .ok (.aload_n 0, 1) := dk_42 (dk_at dksX5_holds_2 3 rfl rfl)
theorem dX5_holds_51 : decode cX5_holds 51 = .ok (.getfield 41, 3) := dk_180 0 41 (dk_at dksX5_holds_2 4 rfl rfl)
theorem dX5_holds_54 : decode cX5_holds 54 = .ok (.iload_n 2, 1) := dk_28 (dk_at dksX5_holds_2 7 rfl rfl)
theorem dX5_holds_55 : decode cX5_holds 55 = .ok (.iaload, 1) := dk_46 (dk_at dksX5_holds_2 8 rfl rfl)
theorem dX5_holds_56 : decode cX5_holds 56 = .ok (.if_icmp .lt 7, 3) := dk_161 0 7 (dk_at dksX5_holds_2 9 rfl rfl)
theorem dX5_holds_59 : decode cX5_holds 59 = .ok (.iconst 1, 1) := dk_4 (dk_at dksX5_holds_2 12 rfl rfl)
theorem dX5_holds_60 : decode cX5_holds 60 = .ok (.goto 4, 3) := dk_167 0 4 (dk_at dksX5_holds_2 13 rfl rfl)
theorem dX5_holds_63 : decode cX5_holds 63 = .ok (.iconst 0, 1) := dk_3 (dk_at dksX5_holds_2 16 rfl rfl)
theorem dX5_holds_64 : decode cX5_holds 64 = .ok (.ireturn, 1) := dk_172 (dk_at dksX5_holds_2 17 rfl rfl)
theorem dX5_holds_65 : decode cX5_holds 65 = .ok (.aload_n 0, 1) := dk_42 (dk_at dksX5_holds_2 18 rfl rfl)
theorem dX5_holds_66 : decode cX5_holds 66 = .ok (.getfield 38, 3) := dk_180 0 38 (dk_at dksX5_holds_2 19 rfl rfl)
theorem dX5_holds_69 : decode cX5_holds 69 = .ok (.iload_n 2, 1) := dk_28 (dk_at dksX5_holds_2 22 rfl rfl)
theorem dX5_holds_70 : decode cX5_holds 70 = .ok (.iaload, 1) := dk_46 (dk_at dksX5_holds_2 23 rfl rfl)
theorem dX5_holds_71 : decode cX5_holds 71 = .ok (.iconst 3, 1) := dk_6 (dk_at dksX5_holds_3 0 rfl rfl)
theorem dX5_holds_72 : decode cX5_holds 72 = .ok (.if_icmp .ne 30, 3) := dk_160 0 30 (dk_at dksX5_holds_3 1 rfl rfl)
theorem dX5_holds_75 : decode cX5_holds 75 = .ok (.aload_n 0, 1) := dk_42 (dk_at dksX5_holds_3 4 rfl rfl)
theorem dX5_holds_76 : decode cX5_holds 76 = .ok (.getfield 7, 3) := dk_180 0 7 (dk_at dksX5_holds_3 5 rfl rfl)
theorem dX5_holds_79 : decode cX5_holds 79 = .ok (.iconst 3, 1) := dk_6 (dk_at dksX5_holds_3 8 rfl rfl)
theorem dX5_holds_80 : decode cX5_holds 80 = .ok (.iload_n 3, 1) := dk_29 (dk_at dksX5_holds_3 9 rfl rfl)
theorem dX5_holds_81 : decode cX5_holds 81 = .ok (.imul, 1) := dk_104 (dk_at dksX5_holds_3 10 rfl rfl)
theorem dX5_holds_82 : decode cX5_holds 82 = .ok (.aload_n 0, 1) := dk_42 (dk_at dksX5_holds_3 11 rfl rfl)
theorem dX5_holds_83 : decode cX5_holds 83 = .ok (.getfield 41, 3) := dk_180 0 41 (dk_at dksX5_holds_3 12 rfl rfl)
theorem dX5_holds_86 : decode cX5_holds 86 = .ok (.iload_n 2, 1) := dk_28 (dk_at dksX5_holds_3 15 rfl rfl)
theorem dX5_holds_87 : decode cX5_holds 87 = .ok (.iaload, 1) := dk_46 (dk_at dksX5_holds_3 16 rfl rfl)
theorem dX5_holds_88 : decode cX5_holds 88 = .ok (.iadd, 1) := dk_96 (dk_at dksX5_holds_3 17 rfl rfl)
theorem dX5_holds_89 : decode cX5_holds 89 = .ok (.iaload, 1) := dk_46 (dk_at dksX5_holds_3 18 rfl rfl)
theorem dX5_holds_90 : decode cX5_holds 90 = .ok (.iconst 1, 1) := dk_4 (dk_at dksX5_holds_3 19 rfl rfl)
theorem dX5_holds_91 : decode cX5_holds 91 = .ok (.if_icmp .ne 7, 3) := dk_160 0 7 (dk_at dksX5_holds_3 20 rfl rfl)
theorem dX5_holds_94 : decode cX5_holds 94 = .ok (.iconst 1, 1) := dk_4 (dk_at dksX5_holds_3 23 rfl rfl)
theorem dX5_holds_95 : decode cX5_holds 95 = .ok (.goto 29, 3) := dk_167 0 29 (dk_at dksX5_holds_4 0 rfl rfl)
theorem dX5_holds_98 : decode cX5_holds 98 = .ok (.iconst 0, 1) := dk_3 (dk_at dksX5_holds_4 3 rfl rfl)
theorem dX5_holds_99 : decode cX5_holds 99 = .ok (.goto 25, 3) := dk_167 0 25 (dk_at dksX5_holds_4 4 rfl rfl)
theorem dX5_holds_102 : decode cX5_holds 102 = .ok (.aload_n 0, 1) := dk_42 (dk_at dksX5_holds_4 7 rfl rfl)
theorem dX5_holds_103 : decode cX5_holds 103 = .ok (.iload_n 1, 1) := dk_27 (dk_at dksX5_holds_4 8 rfl rfl)
theorem dX5_holds_104 : decode cX5_holds 104 = .ok (.invokevirtual 325, 3) := dk_182 1 69 (dk_at dksX5_holds_4 9 rfl rfl)
theorem dX5_holds_107 : decode cX5_holds 107 = .ok (.invokestatic 309, 3) := dk_184 1 53 (dk_at dksX5_holds_4 12 rfl rfl)
theorem dX5_holds_110 : decode cX5_holds 110 = .ok (.aload_n 0, 1) := dk_42 (dk_at dksX5_holds_4 15 rfl rfl)
theorem dX5_holds_111 : decode cX5_holds 111 = .ok (.getfield 41, 3) := dk_180 0 41 (dk_at dksX5_holds_4 16 rfl rfl)
theorem dX5_holds_114 : decode cX5_holds 114 = .ok (.iload_n 2, 1) := dk_28 (dk_at dksX5_holds_4 19 rfl rfl)
theorem dX5_holds_115 : decode cX5_holds 115 = .ok (.iaload, 1) := dk_46 (dk_at dksX5_holds_4 20 rfl rfl)
theorem dX5_holds_116 : decode cX5_holds 116 = .ok (.if_icmp .lt 7, 3) := dk_161 0 7 (dk_at dksX5_holds_4 21 rfl rfl)
theorem dX5_holds_119 : decode cX5_holds 119 = .ok (.iconst 1, 1) := dk_4 (dk_at dksX5_holds_5 0 rfl rfl)
theorem dX5_holds_120 : decode cX5_holds 120 = .ok (.goto 4, 3) := dk_167 0 4 (dk_at dksX5_holds_5 1 rfl rfl)
theorem dX5_holds_123 : decode cX5_holds 123 = .ok (.iconst 0, 1) := dk_3 (dk_at dksX5_holds_5 4 rfl rfl)
theorem dX5_holds_124 : decode cX5_holds 124 = .ok (.ireturn, 1) := dk_172 (dk_at dksX5_holds_5 5 rfl rfl)
abbrev cX5_riskOf : ByteArray := prog_14_method_42_code
def yX5_riskOf : MethodName := ⟨RX5, "riskOf", "(IZ)I"⟩
def dkwX5_riskOf_3 : List UInt8 := [51, 153, 0, 7, 3, 167, 0, 9, 42, 4, 28, 182, 1, 62, 96, 172]
abbrev dktX5_riskOf_3 : List UInt8 := dkwX5_riskOf_3 ++ []
def dkwX5_riskOf_2 : List UInt8 := [28, 182, 1, 62, 96, 54, 4, 21, 4, 42, 180, 0, 26, 16, 6, 29, 104, 42, 180, 0, 68, 27, 46, 96]
abbrev dktX5_riskOf_2 : List UInt8 := dkwX5_riskOf_2 ++ dktX5_riskOf_3
def dkwX5_riskOf_1 : List UInt8 := [180, 0, 22, 16, 6, 29, 104, 42, 180, 0, 65, 27, 46, 96, 51, 153, 0, 7, 3, 167, 0, 9, 42, 3]
abbrev dktX5_riskOf_1 : List UInt8 := dkwX5_riskOf_1 ++ dktX5_riskOf_2
def dkwX5_riskOf_0 : List UInt8 := [42, 180, 0, 62, 27, 46, 62, 42, 29, 182, 1, 59, 42, 5, 28, 182, 1, 62, 104, 54, 4, 21, 4, 42]
abbrev dktX5_riskOf_0 : List UInt8 := dkwX5_riskOf_0 ++ dktX5_riskOf_1
theorem dksX5_riskOf_0 : cX5_riskOf.data.toList.drop 0 = dktX5_riskOf_0 := by decide +kernel
theorem dksX5_riskOf_1 : cX5_riskOf.data.toList.drop 24 = dktX5_riskOf_1 := dk_seg dksX5_riskOf_0 24 rfl rfl
theorem dksX5_riskOf_2 : cX5_riskOf.data.toList.drop 48 = dktX5_riskOf_2 := dk_seg dksX5_riskOf_1 24 rfl rfl
theorem dksX5_riskOf_3 : cX5_riskOf.data.toList.drop 72 = dktX5_riskOf_3 := dk_seg dksX5_riskOf_2 24 rfl rfl
theorem dX5_riskOf_0 : decode cX5_riskOf 0 = .ok (.aload_n 0, 1) := dk_42 (dk_at dksX5_riskOf_0 0 rfl rfl)
theorem dX5_riskOf_1 : decode cX5_riskOf 1 = .ok (.getfield 62, 3) := dk_180 0 62 (dk_at dksX5_riskOf_0 1 rfl rfl)
theorem dX5_riskOf_4 : decode cX5_riskOf 4 = .ok (.iload_n 1, 1) := dk_27 (dk_at dksX5_riskOf_0 4 rfl rfl)
theorem dX5_riskOf_5 : decode cX5_riskOf 5 = .ok (.iaload, 1) := dk_46 (dk_at dksX5_riskOf_0 5 rfl rfl)
theorem dX5_riskOf_6 : decode cX5_riskOf 6 = .ok (.istore_n 3, 1) := dk_62 (dk_at dksX5_riskOf_0 6 rfl rfl)
theorem dX5_riskOf_7 : decode cX5_riskOf 7 = .ok (.aload_n 0, 1) := dk_42 (dk_at dksX5_riskOf_0 7 rfl rfl)
theorem dX5_riskOf_8 : decode cX5_riskOf 8 = .ok (.iload_n 3, 1) := dk_29 (dk_at dksX5_riskOf_0 8 rfl rfl)
theorem dX5_riskOf_9 : decode cX5_riskOf 9 = .ok (.invokevirtual 315, 3) := dk_182 1 59 (dk_at dksX5_riskOf_0 9 rfl rfl)
theorem dX5_riskOf_12 : decode cX5_riskOf 12 = .ok (.aload_n 0, 1) := dk_42 (dk_at dksX5_riskOf_0 12 rfl rfl)
theorem dX5_riskOf_13 : decode cX5_riskOf 13 = .ok (.iconst 2, 1) := dk_5 (dk_at dksX5_riskOf_0 13 rfl rfl)
theorem dX5_riskOf_14 : decode cX5_riskOf 14 = .ok (.iload_n 2, 1) := dk_28 (dk_at dksX5_riskOf_0 14 rfl rfl)
theorem dX5_riskOf_15 : decode cX5_riskOf 15 = .ok (.invokevirtual 318, 3) := dk_182 1 62 (dk_at dksX5_riskOf_0 15 rfl rfl)
theorem dX5_riskOf_18 : decode cX5_riskOf 18 = .ok (.imul, 1) := dk_104 (dk_at dksX5_riskOf_0 18 rfl rfl)
theorem dX5_riskOf_19 : decode cX5_riskOf 19 = .ok (.istore 4, 2) := dk_54 4 (dk_at dksX5_riskOf_0 19 rfl rfl)
theorem dX5_riskOf_21 : decode cX5_riskOf 21 = .ok (.iload 4, 2) := dk_21 4 (dk_at dksX5_riskOf_0 21 rfl rfl)
theorem dX5_riskOf_23 : decode cX5_riskOf 23 = .ok (.aload_n 0, 1) := dk_42 (dk_at dksX5_riskOf_0 23 rfl rfl)
theorem dX5_riskOf_24 : decode cX5_riskOf 24 = .ok (.getfield 22, 3) := dk_180 0 22 (dk_at dksX5_riskOf_1 0 rfl rfl)
theorem dX5_riskOf_27 : decode cX5_riskOf 27 = .ok (.bipush 6, 2) := dk_16 6 (dk_at dksX5_riskOf_1 3 rfl rfl)
theorem dX5_riskOf_29 : decode cX5_riskOf 29 = .ok (.iload_n 3, 1) := dk_29 (dk_at dksX5_riskOf_1 5 rfl rfl)
theorem dX5_riskOf_30 : decode cX5_riskOf 30 = .ok (.imul, 1) := dk_104 (dk_at dksX5_riskOf_1 6 rfl rfl)
theorem dX5_riskOf_31 : decode cX5_riskOf 31 = .ok (.aload_n 0, 1) := dk_42 (dk_at dksX5_riskOf_1 7 rfl rfl)
theorem dX5_riskOf_32 : decode cX5_riskOf 32 = .ok (.getfield 65, 3) := dk_180 0 65 (dk_at dksX5_riskOf_1 8 rfl rfl)
theorem dX5_riskOf_35 : decode cX5_riskOf 35 = .ok (.iload_n 1, 1) := dk_27 (dk_at dksX5_riskOf_1 11 rfl rfl)
theorem dX5_riskOf_36 : decode cX5_riskOf 36 = .ok (.iaload, 1) := dk_46 (dk_at dksX5_riskOf_1 12 rfl rfl)
theorem dX5_riskOf_37 : decode cX5_riskOf 37 = .ok (.iadd, 1) := dk_96 (dk_at dksX5_riskOf_1 13 rfl rfl)
theorem dX5_riskOf_38 : decode cX5_riskOf 38 = .ok (.baload, 1) := dk_51 (dk_at dksX5_riskOf_1 14 rfl rfl)
theorem dX5_riskOf_39 : decode cX5_riskOf 39 = .ok (.ifCond .eq 7, 3) := dk_153 0 7 (dk_at dksX5_riskOf_1 15 rfl rfl)
theorem dX5_riskOf_42 : decode cX5_riskOf 42 = .ok (.iconst 0, 1) := dk_3 (dk_at dksX5_riskOf_1 18 rfl rfl)
theorem dX5_riskOf_43 : decode cX5_riskOf 43 = .ok (.goto 9, 3) := dk_167 0 9 (dk_at dksX5_riskOf_1 19 rfl rfl)
theorem dX5_riskOf_46 : decode cX5_riskOf 46 = .ok (.aload_n 0, 1) := dk_42 (dk_at dksX5_riskOf_1 22 rfl rfl)
theorem dX5_riskOf_47 : decode cX5_riskOf 47 = .ok (.iconst 0, 1) := dk_3 (dk_at dksX5_riskOf_1 23 rfl rfl)
theorem dX5_riskOf_48 : decode cX5_riskOf 48 = .ok (.iload_n 2, 1) := dk_28 (dk_at dksX5_riskOf_2 0 rfl rfl)
theorem dX5_riskOf_49 : decode cX5_riskOf 49 = .ok (.invokevirtual 318, 3) := dk_182 1 62 (dk_at dksX5_riskOf_2 1 rfl rfl)
theorem dX5_riskOf_52 : decode cX5_riskOf 52 = .ok (.iadd, 1) := dk_96 (dk_at dksX5_riskOf_2 4 rfl rfl)
theorem dX5_riskOf_53 : decode cX5_riskOf 53 = .ok (.istore 4, 2) := dk_54 4 (dk_at dksX5_riskOf_2 5 rfl rfl)
theorem dX5_riskOf_55 : decode cX5_riskOf 55 = .ok (.iload 4, 2) := dk_21 4 (dk_at dksX5_riskOf_2 7 rfl rfl)
theorem dX5_riskOf_57 : decode cX5_riskOf 57 = .ok (.aload_n 0, 1) := dk_42 (dk_at dksX5_riskOf_2 9 rfl rfl)
theorem dX5_riskOf_58 : decode cX5_riskOf 58 = .ok (.getfield 26, 3) := dk_180 0 26 (dk_at dksX5_riskOf_2 10 rfl rfl)
theorem dX5_riskOf_61 : decode cX5_riskOf 61 = .ok (.bipush 6, 2) := dk_16 6 (dk_at dksX5_riskOf_2 13 rfl rfl)
theorem dX5_riskOf_63 : decode cX5_riskOf 63 = .ok (.iload_n 3, 1) := dk_29 (dk_at dksX5_riskOf_2 15 rfl rfl)
theorem dX5_riskOf_64 : decode cX5_riskOf 64 = .ok (.imul, 1) := dk_104 (dk_at dksX5_riskOf_2 16 rfl rfl)
theorem dX5_riskOf_65 : decode cX5_riskOf 65 = .ok (.aload_n 0, 1) := dk_42 (dk_at dksX5_riskOf_2 17 rfl rfl)
theorem dX5_riskOf_66 : decode cX5_riskOf 66 = .ok (.getfield 68, 3) := dk_180 0 68 (dk_at dksX5_riskOf_2 18 rfl rfl)
theorem dX5_riskOf_69 : decode cX5_riskOf 69 = .ok (.iload_n 1, 1) := dk_27 (dk_at dksX5_riskOf_2 21 rfl rfl)
theorem dX5_riskOf_70 : decode cX5_riskOf 70 = .ok (.iaload, 1) := dk_46 (dk_at dksX5_riskOf_2 22 rfl rfl)
theorem dX5_riskOf_71 : decode cX5_riskOf 71 = .ok (.iadd, 1) := dk_96 (dk_at dksX5_riskOf_2 23 rfl rfl)
theorem dX5_riskOf_72 : decode cX5_riskOf 72 = .ok (.baload, 1) := dk_51 (dk_at dksX5_riskOf_3 0 rfl rfl)
theorem dX5_riskOf_73 : decode cX5_riskOf 73 = .ok (.ifCond .eq 7, 3) := dk_153 0 7 (dk_at dksX5_riskOf_3 1 rfl rfl)
theorem dX5_riskOf_76 : decode cX5_riskOf 76 = .ok (.iconst 0, 1) := dk_3 (dk_at dksX5_riskOf_3 4 rfl rfl)
theorem dX5_riskOf_77 : decode cX5_riskOf 77 = .ok (.goto 9, 3) := dk_167 0 9 (dk_at dksX5_riskOf_3 5 rfl rfl)
theorem dX5_riskOf_80 : decode cX5_riskOf 80 = .ok (.aload_n 0, 1) := dk_42 (dk_at dksX5_riskOf_3 8 rfl rfl)
theorem dX5_riskOf_81 : decode cX5_riskOf 81 = .ok (.iconst 1, 1) := dk_4 (dk_at dksX5_riskOf_3 9 rfl rfl)
theorem dX5_riskOf_82 : decode cX5_riskOf 82 = .ok (.iload_n 2, 1) := dk_28 (dk_at dksX5_riskOf_3 10 rfl rfl)
theorem dX5_riskOf_83 : decode cX5_riskOf 83 = .ok (.invokevirtual 318, 3) := dk_182 1 62 (dk_at dksX5_riskOf_3 11 rfl rfl)
theorem dX5_riskOf_86 : decode cX5_riskOf 86 = .ok (.iadd, 1) := dk_96 (dk_at dksX5_riskOf_3 14 rfl rfl)
theorem dX5_riskOf_87 : decode cX5_riskOf 87 = .ok (.ireturn, 1) := dk_172 (dk_at dksX5_riskOf_3 15 rfl rfl)
abbrev cX5_wrongs : ByteArray := prog_14_method_40_code
def yX5_wrongs : MethodName := ⟨RX5, "wrongs", "(I)I"⟩
def dkwX5_wrongs_1 : List UInt8 := [100, 16, 60, 162, 0, 7, 4, 167, 0, 4, 3, 96, 61, 132, 3, 1, 167, 255, 220, 28, 172]
abbrev dktX5_wrongs_1 : List UInt8 := dkwX5_wrongs_1 ++ []
def dkwX5_wrongs_0 : List UInt8 := [3, 61, 3, 62, 29, 6, 162, 0, 37, 28, 42, 180, 0, 247, 42, 180, 0, 19, 6, 27, 104, 29, 96, 46]
abbrev dktX5_wrongs_0 : List UInt8 := dkwX5_wrongs_0 ++ dktX5_wrongs_1
theorem dksX5_wrongs_0 : cX5_wrongs.data.toList.drop 0 = dktX5_wrongs_0 := by decide +kernel
theorem dksX5_wrongs_1 : cX5_wrongs.data.toList.drop 24 = dktX5_wrongs_1 := dk_seg dksX5_wrongs_0 24 rfl rfl
theorem dX5_wrongs_0 : decode cX5_wrongs 0 = .ok (.iconst 0, 1) := dk_3 (dk_at dksX5_wrongs_0 0 rfl rfl)
theorem dX5_wrongs_1 : decode cX5_wrongs 1 = .ok (.istore_n 2, 1) := dk_61 (dk_at dksX5_wrongs_0 1 rfl rfl)
theorem dX5_wrongs_2 : decode cX5_wrongs 2 = .ok (.iconst 0, 1) := dk_3 (dk_at dksX5_wrongs_0 2 rfl rfl)
theorem dX5_wrongs_3 : decode cX5_wrongs 3 = .ok (.istore_n 3, 1) := dk_62 (dk_at dksX5_wrongs_0 3 rfl rfl)
theorem dX5_wrongs_4 : decode cX5_wrongs 4 = .ok (.iload_n 3, 1) := dk_29 (dk_at dksX5_wrongs_0 4 rfl rfl)
theorem dX5_wrongs_5 : decode cX5_wrongs 5 = .ok (.iconst 3, 1) := dk_6 (dk_at dksX5_wrongs_0 5 rfl rfl)
theorem dX5_wrongs_6 : decode cX5_wrongs 6 = .ok (.if_icmp .ge 37, 3) := dk_162 0 37 (dk_at dksX5_wrongs_0 6 rfl rfl)
theorem dX5_wrongs_9 : decode cX5_wrongs 9 = .ok (.iload_n 2, 1) := dk_28 (dk_at dksX5_wrongs_0 9 rfl rfl)
theorem dX5_wrongs_10 : decode cX5_wrongs 10 = .ok (.aload_n 0, 1) := dk_42 (dk_at dksX5_wrongs_0 10 rfl rfl)
theorem dX5_wrongs_11 : decode cX5_wrongs 11 = .ok (.getfield 247, 3) := dk_180 0 247 (dk_at dksX5_wrongs_0 11 rfl rfl)
theorem dX5_wrongs_14 : decode cX5_wrongs 14 = .ok (.aload_n 0, 1) := dk_42 (dk_at dksX5_wrongs_0 14 rfl rfl)
theorem dX5_wrongs_15 : decode cX5_wrongs 15 = .ok (.getfield 19, 3) := dk_180 0 19 (dk_at dksX5_wrongs_0 15 rfl rfl)
theorem dX5_wrongs_18 : decode cX5_wrongs 18 = .ok (.iconst 3, 1) := dk_6 (dk_at dksX5_wrongs_0 18 rfl rfl)
theorem dX5_wrongs_19 : decode cX5_wrongs 19 = .ok (.iload_n 1, 1) := dk_27 (dk_at dksX5_wrongs_0 19 rfl rfl)
theorem dX5_wrongs_20 : decode cX5_wrongs 20 = .ok (.imul, 1) := dk_104 (dk_at dksX5_wrongs_0 20 rfl rfl)
theorem dX5_wrongs_21 : decode cX5_wrongs 21 = .ok (.iload_n 3, 1) := dk_29 (dk_at dksX5_wrongs_0 21 rfl rfl)
theorem dX5_wrongs_22 : decode cX5_wrongs 22 = .ok (.iadd, 1) := dk_96 (dk_at dksX5_wrongs_0 22 rfl rfl)
theorem dX5_wrongs_23 : decode cX5_wrongs 23 = .ok (.iaload, 1) := dk_46 (dk_at dksX5_wrongs_0 23 rfl rfl)
theorem dX5_wrongs_24 : decode cX5_wrongs 24 = .ok (.isub, 1) := dk_100 (dk_at dksX5_wrongs_1 0 rfl rfl)
theorem dX5_wrongs_25 : decode cX5_wrongs 25 = .ok (.bipush 60, 2) := dk_16 60 (dk_at dksX5_wrongs_1 1 rfl rfl)
theorem dX5_wrongs_27 : decode cX5_wrongs 27 = .ok (.if_icmp .ge 7, 3) := dk_162 0 7 (dk_at dksX5_wrongs_1 3 rfl rfl)
theorem dX5_wrongs_30 : decode cX5_wrongs 30 = .ok (.iconst 1, 1) := dk_4 (dk_at dksX5_wrongs_1 6 rfl rfl)
theorem dX5_wrongs_31 : decode cX5_wrongs 31 = .ok (.goto 4, 3) := dk_167 0 4 (dk_at dksX5_wrongs_1 7 rfl rfl)
theorem dX5_wrongs_34 : decode cX5_wrongs 34 = .ok (.iconst 0, 1) := dk_3 (dk_at dksX5_wrongs_1 10 rfl rfl)
theorem dX5_wrongs_35 : decode cX5_wrongs 35 = .ok (.iadd, 1) := dk_96 (dk_at dksX5_wrongs_1 11 rfl rfl)
theorem dX5_wrongs_36 : decode cX5_wrongs 36 = .ok (.istore_n 2, 1) := dk_61 (dk_at dksX5_wrongs_1 12 rfl rfl)
theorem dX5_wrongs_37 : decode cX5_wrongs 37 = .ok (.iinc 3 1, 3) := dk_132 3 1 (dk_at dksX5_wrongs_1 13 rfl rfl)
theorem dX5_wrongs_40 : decode cX5_wrongs 40 = .ok (.goto (-36), 3) := dk_167 255 220 (dk_at dksX5_wrongs_1 16 rfl rfl)
theorem dX5_wrongs_43 : decode cX5_wrongs 43 = .ok (.iload_n 2, 1) := dk_28 (dk_at dksX5_wrongs_1 19 rfl rfl)
theorem dX5_wrongs_44 : decode cX5_wrongs 44 = .ok (.ireturn, 1) := dk_172 (dk_at dksX5_wrongs_1 20 rfl rfl)
abbrev cX5_pointsOf : ByteArray := prog_14_method_41_code
def yX5_pointsOf : MethodName := ⟨RX5, "pointsOf", "(IZ)I"⟩
def dkwX5_pointsOf_1 : List UInt8 := [180, 0, 56, 27, 46, 172]
abbrev dktX5_pointsOf_1 : List UInt8 := dkwX5_pointsOf_1 ++ []
def dkwX5_pointsOf_0 : List UInt8 := [28, 153, 0, 22, 42, 180, 0, 59, 27, 46, 2, 159, 0, 12, 42, 180, 0, 59, 27, 46, 167, 0, 9, 42]
abbrev dktX5_pointsOf_0 : List UInt8 := dkwX5_pointsOf_0 ++ dktX5_pointsOf_1
theorem dksX5_pointsOf_0 : cX5_pointsOf.data.toList.drop 0 = dktX5_pointsOf_0 := by decide +kernel
theorem dksX5_pointsOf_1 : cX5_pointsOf.data.toList.drop 24 = dktX5_pointsOf_1 := dk_seg dksX5_pointsOf_0 24 rfl rfl
theorem dX5_pointsOf_0 : decode cX5_pointsOf 0 = .ok (.iload_n 2, 1) := dk_28 (dk_at dksX5_pointsOf_0 0 rfl rfl)
theorem dX5_pointsOf_1 : decode cX5_pointsOf 1 = .ok (.ifCond .eq 22, 3) := dk_153 0 22 (dk_at dksX5_pointsOf_0 1 rfl rfl)
theorem dX5_pointsOf_4 : decode cX5_pointsOf 4 = .ok (.aload_n 0, 1) := dk_42 (dk_at dksX5_pointsOf_0 4 rfl rfl)
theorem dX5_pointsOf_5 : decode cX5_pointsOf 5 = .ok (.getfield 59, 3) := dk_180 0 59 (dk_at dksX5_pointsOf_0 5 rfl rfl)
theorem dX5_pointsOf_8 : decode cX5_pointsOf 8 = .ok (.iload_n 1, 1) := dk_27 (dk_at dksX5_pointsOf_0 8 rfl rfl)
theorem dX5_pointsOf_9 : decode cX5_pointsOf 9 = .ok (.iaload, 1) := dk_46 (dk_at dksX5_pointsOf_0 9 rfl rfl)
theorem dX5_pointsOf_10 : decode cX5_pointsOf 10 = .ok (.iconst (-1), 1) := dk_2 (dk_at dksX5_pointsOf_0 10 rfl rfl)
theorem dX5_pointsOf_11 : decode cX5_pointsOf 11 = .ok (.if_icmp .eq 12, 3) := dk_159 0 12 (dk_at dksX5_pointsOf_0 11 rfl rfl)
theorem dX5_pointsOf_14 : decode cX5_pointsOf 14 = .ok (.aload_n 0, 1) := dk_42 (dk_at dksX5_pointsOf_0 14 rfl rfl)
theorem dX5_pointsOf_15 : decode cX5_pointsOf 15 = .ok (.getfield 59, 3) := dk_180 0 59 (dk_at dksX5_pointsOf_0 15 rfl rfl)
theorem dX5_pointsOf_18 : decode cX5_pointsOf 18 = .ok (.iload_n 1, 1) := dk_27 (dk_at dksX5_pointsOf_0 18 rfl rfl)
theorem dX5_pointsOf_19 : decode cX5_pointsOf 19 = .ok (.iaload, 1) := dk_46 (dk_at dksX5_pointsOf_0 19 rfl rfl)
theorem dX5_pointsOf_20 : decode cX5_pointsOf 20 = .ok (.goto 9, 3) := dk_167 0 9 (dk_at dksX5_pointsOf_0 20 rfl rfl)
theorem dX5_pointsOf_23 : decode cX5_pointsOf 23 = .ok (.aload_n 0, 1) := dk_42 (dk_at dksX5_pointsOf_0 23 rfl rfl)
theorem dX5_pointsOf_24 : decode cX5_pointsOf 24 = .ok (.getfield 56, 3) := dk_180 0 56 (dk_at dksX5_pointsOf_1 0 rfl rfl)
theorem dX5_pointsOf_27 : decode cX5_pointsOf 27 = .ok (.iload_n 1, 1) := dk_27 (dk_at dksX5_pointsOf_1 3 rfl rfl)
theorem dX5_pointsOf_28 : decode cX5_pointsOf 28 = .ok (.iaload, 1) := dk_46 (dk_at dksX5_pointsOf_1 4 rfl rfl)
theorem dX5_pointsOf_29 : decode cX5_pointsOf 29 = .ok (.ireturn, 1) := dk_172 (dk_at dksX5_pointsOf_1 5 rfl rfl)
abbrev cX5_shownIn : ByteArray := prog_14_method_44_code
def yX5_shownIn : MethodName := ⟨RX5, "shownIn", "(I)I"⟩
def dkwX5_shownIn_1 : List UInt8 := [4, 29, 120, 167, 0, 4, 3, 128, 61, 132, 3, 1, 167, 255, 224, 28, 172]
abbrev dktX5_shownIn_1 : List UInt8 := dkwX5_shownIn_1 ++ []
def dkwX5_shownIn_0 : List UInt8 := [3, 61, 3, 62, 29, 6, 162, 0, 33, 28, 42, 180, 0, 89, 6, 27, 104, 29, 96, 46, 2, 159, 0, 9]
abbrev dktX5_shownIn_0 : List UInt8 := dkwX5_shownIn_0 ++ dktX5_shownIn_1
theorem dksX5_shownIn_0 : cX5_shownIn.data.toList.drop 0 = dktX5_shownIn_0 := by decide +kernel
theorem dksX5_shownIn_1 : cX5_shownIn.data.toList.drop 24 = dktX5_shownIn_1 := dk_seg dksX5_shownIn_0 24 rfl rfl
theorem dX5_shownIn_0 : decode cX5_shownIn 0 = .ok (.iconst 0, 1) := dk_3 (dk_at dksX5_shownIn_0 0 rfl rfl)
theorem dX5_shownIn_1 : decode cX5_shownIn 1 = .ok (.istore_n 2, 1) := dk_61 (dk_at dksX5_shownIn_0 1 rfl rfl)
theorem dX5_shownIn_2 : decode cX5_shownIn 2 = .ok (.iconst 0, 1) := dk_3 (dk_at dksX5_shownIn_0 2 rfl rfl)
theorem dX5_shownIn_3 : decode cX5_shownIn 3 = .ok (.istore_n 3, 1) := dk_62 (dk_at dksX5_shownIn_0 3 rfl rfl)
theorem dX5_shownIn_4 : decode cX5_shownIn 4 = .ok (.iload_n 3, 1) := dk_29 (dk_at dksX5_shownIn_0 4 rfl rfl)
theorem dX5_shownIn_5 : decode cX5_shownIn 5 = .ok (.iconst 3, 1) := dk_6 (dk_at dksX5_shownIn_0 5 rfl rfl)
theorem dX5_shownIn_6 : decode cX5_shownIn 6 = .ok (.if_icmp .ge 33, 3) := dk_162 0 33 (dk_at dksX5_shownIn_0 6 rfl rfl)
theorem dX5_shownIn_9 : decode cX5_shownIn 9 = .ok (.iload_n 2, 1) := dk_28 (dk_at dksX5_shownIn_0 9 rfl rfl)
theorem dX5_shownIn_10 : decode cX5_shownIn 10 = .ok (.aload_n 0, 1) := dk_42 (dk_at dksX5_shownIn_0 10 rfl rfl)
theorem dX5_shownIn_11 : decode cX5_shownIn 11 = .ok (.getfield 89, 3) := dk_180 0 89 (dk_at dksX5_shownIn_0 11 rfl rfl)
theorem dX5_shownIn_14 : decode cX5_shownIn 14 = .ok (.iconst 3, 1) := dk_6 (dk_at dksX5_shownIn_0 14 rfl rfl)
theorem dX5_shownIn_15 : decode cX5_shownIn 15 = .ok (.iload_n 1, 1) := dk_27 (dk_at dksX5_shownIn_0 15 rfl rfl)
theorem dX5_shownIn_16 : decode cX5_shownIn 16 = .ok (.imul, 1) := dk_104 (dk_at dksX5_shownIn_0 16 rfl rfl)
theorem dX5_shownIn_17 : decode cX5_shownIn 17 = .ok (.iload_n 3, 1) := dk_29 (dk_at dksX5_shownIn_0 17 rfl rfl)
theorem dX5_shownIn_18 : decode cX5_shownIn 18 = .ok (.iadd, 1) := dk_96 (dk_at dksX5_shownIn_0 18 rfl rfl)
theorem dX5_shownIn_19 : decode cX5_shownIn 19 = .ok (.iaload, 1) := dk_46 (dk_at dksX5_shownIn_0 19 rfl rfl)
theorem dX5_shownIn_20 : decode cX5_shownIn 20 = .ok (.iconst (-1), 1) := dk_2 (dk_at dksX5_shownIn_0 20 rfl rfl)
theorem dX5_shownIn_21 : decode cX5_shownIn 21 = .ok (.if_icmp .eq 9, 3) := dk_159 0 9 (dk_at dksX5_shownIn_0 21 rfl rfl)
theorem dX5_shownIn_24 : decode cX5_shownIn 24 = .ok (.iconst 1, 1) := dk_4 (dk_at dksX5_shownIn_1 0 rfl rfl)
theorem dX5_shownIn_25 : decode cX5_shownIn 25 = .ok (.iload_n 3, 1) := dk_29 (dk_at dksX5_shownIn_1 1 rfl rfl)
theorem dX5_shownIn_26 : decode cX5_shownIn 26 = .ok (.ishl, 1) := dk_120 (dk_at dksX5_shownIn_1 2 rfl rfl)
theorem dX5_shownIn_27 : decode cX5_shownIn 27 = .ok (.goto 4, 3) := dk_167 0 4 (dk_at dksX5_shownIn_1 3 rfl rfl)
theorem dX5_shownIn_30 : decode cX5_shownIn 30 = .ok (.iconst 0, 1) := dk_3 (dk_at dksX5_shownIn_1 6 rfl rfl)
theorem dX5_shownIn_31 : decode cX5_shownIn 31 = .ok (.ior, 1) := dk_128 (dk_at dksX5_shownIn_1 7 rfl rfl)
theorem dX5_shownIn_32 : decode cX5_shownIn 32 = .ok (.istore_n 2, 1) := dk_61 (dk_at dksX5_shownIn_1 8 rfl rfl)
theorem dX5_shownIn_33 : decode cX5_shownIn 33 = .ok (.iinc 3 1, 3) := dk_132 3 1 (dk_at dksX5_shownIn_1 9 rfl rfl)
theorem dX5_shownIn_36 : decode cX5_shownIn 36 = .ok (.goto (-32), 3) := dk_167 255 224 (dk_at dksX5_shownIn_1 12 rfl rfl)
theorem dX5_shownIn_39 : decode cX5_shownIn 39 = .ok (.iload_n 2, 1) := dk_28 (dk_at dksX5_shownIn_1 15 rfl rfl)
theorem dX5_shownIn_40 : decode cX5_shownIn 40 = .ok (.ireturn, 1) := dk_172 (dk_at dksX5_shownIn_1 16 rfl rfl)
abbrev cX5_grant : ByteArray := prog_14_method_47_code
def yX5_grant : MethodName := ⟨RX5, "grant", "(I)V"⟩
def dkwX5_grant_4 : List UInt8 := [96, 4, 84, 42, 180, 0, 26, 16, 6, 28, 104, 42, 180, 0, 68, 27, 46, 96, 4, 84, 177]
abbrev dktX5_grant_4 : List UInt8 := dkwX5_grant_4 ++ []
def dkwX5_grant_3 : List UInt8 := [29, 96, 46, 79, 132, 3, 1, 167, 255, 223, 42, 180, 0, 22, 16, 6, 28, 104, 42, 180, 0, 65, 27, 46]
abbrev dktX5_grant_3 : List UInt8 := dkwX5_grant_3 ++ dktX5_grant_4
def dkwX5_grant_2 : List UInt8 := [162, 0, 34, 42, 180, 0, 107, 6, 42, 180, 0, 86, 27, 46, 104, 29, 96, 42, 180, 0, 89, 6, 27, 104]
abbrev dktX5_grant_2 : List UInt8 := dkwX5_grant_2 ++ dktX5_grant_3
def dkwX5_grant_1 : List UInt8 := [42, 180, 0, 77, 27, 4, 79, 42, 180, 0, 86, 27, 42, 28, 2, 182, 1, 72, 79, 3, 62, 29, 6]
abbrev dktX5_grant_1 : List UInt8 := dkwX5_grant_1 ++ dktX5_grant_2
def dkwX5_grant_0 : List UInt8 := [42, 180, 0, 235, 16, 60, 160, 0, 11, 42, 180, 0, 77, 27, 5, 79, 177, 42, 180, 0, 62, 27, 46, 61]
abbrev dktX5_grant_0 : List UInt8 := dkwX5_grant_0 ++ dktX5_grant_1
theorem dksX5_grant_0 : cX5_grant.data.toList.drop 0 = dktX5_grant_0 := by decide +kernel
theorem dksX5_grant_1 : cX5_grant.data.toList.drop 24 = dktX5_grant_1 := dk_seg dksX5_grant_0 24 rfl rfl
theorem dksX5_grant_2 : cX5_grant.data.toList.drop 47 = dktX5_grant_2 := dk_seg dksX5_grant_1 23 rfl rfl
theorem dksX5_grant_3 : cX5_grant.data.toList.drop 71 = dktX5_grant_3 := dk_seg dksX5_grant_2 24 rfl rfl
theorem dksX5_grant_4 : cX5_grant.data.toList.drop 95 = dktX5_grant_4 := dk_seg dksX5_grant_3 24 rfl rfl
theorem dX5_grant_0 : decode cX5_grant 0 = .ok (.aload_n 0, 1) := dk_42 (dk_at dksX5_grant_0 0 rfl rfl)
theorem dX5_grant_1 : decode cX5_grant 1 = .ok (.getfield 235, 3) := dk_180 0 235 (dk_at dksX5_grant_0 1 rfl rfl)
theorem dX5_grant_4 : decode cX5_grant 4 = .ok (.bipush 60, 2) := dk_16 60 (dk_at dksX5_grant_0 4 rfl rfl)
theorem dX5_grant_6 : decode cX5_grant 6 = .ok (.if_icmp .ne 11, 3) := dk_160 0 11 (dk_at dksX5_grant_0 6 rfl rfl)
theorem dX5_grant_9 : decode cX5_grant 9 = .ok (.aload_n 0, 1) := dk_42 (dk_at dksX5_grant_0 9 rfl rfl)
theorem dX5_grant_10 : decode cX5_grant 10 = .ok (.getfield 77, 3) := dk_180 0 77 (dk_at dksX5_grant_0 10 rfl rfl)
theorem dX5_grant_13 : decode cX5_grant 13 = .ok (.iload_n 1, 1) := dk_27 (dk_at dksX5_grant_0 13 rfl rfl)
theorem dX5_grant_14 : decode cX5_grant 14 = .ok (.iconst 2, 1) := dk_5 (dk_at dksX5_grant_0 14 rfl rfl)
theorem dX5_grant_15 : decode cX5_grant 15 = .ok (.iastore, 1) := dk_79 (dk_at dksX5_grant_0 15 rfl rfl)
theorem dX5_grant_16 : decode cX5_grant 16 = .ok (.return_, 1) := dk_177 (dk_at dksX5_grant_0 16 rfl rfl)
theorem dX5_grant_17 : decode cX5_grant 17 = .ok (.aload_n 0, 1) := dk_42 (dk_at dksX5_grant_0 17 rfl rfl)
theorem dX5_grant_18 : decode cX5_grant 18 = .ok (.getfield 62, 3) := dk_180 0 62 (dk_at dksX5_grant_0 18 rfl rfl)
theorem dX5_grant_21 : decode cX5_grant 21 = .ok (.iload_n 1, 1) := dk_27 (dk_at dksX5_grant_0 21 rfl rfl)
theorem dX5_grant_22 : decode cX5_grant 22 = .ok (.iaload, 1) := dk_46 (dk_at dksX5_grant_0 22 rfl rfl)
theorem dX5_grant_23 : decode cX5_grant 23 = .ok (.istore_n 2, 1) := dk_61 (dk_at dksX5_grant_0 23 rfl rfl)
theorem dX5_grant_24 : decode cX5_grant 24 = .ok (.aload_n 0, 1) := dk_42 (dk_at dksX5_grant_1 0 rfl rfl)
theorem dX5_grant_25 : decode cX5_grant 25 = .ok (.getfield 77, 3) := dk_180 0 77 (dk_at dksX5_grant_1 1 rfl rfl)
theorem dX5_grant_28 : decode cX5_grant 28 = .ok (.iload_n 1, 1) := dk_27 (dk_at dksX5_grant_1 4 rfl rfl)
theorem dX5_grant_29 : decode cX5_grant 29 = .ok (.iconst 1, 1) := dk_4 (dk_at dksX5_grant_1 5 rfl rfl)
theorem dX5_grant_30 : decode cX5_grant 30 = .ok (.iastore, 1) := dk_79 (dk_at dksX5_grant_1 6 rfl rfl)
theorem dX5_grant_31 : decode cX5_grant 31 = .ok (.aload_n 0, 1) := dk_42 (dk_at dksX5_grant_1 7 rfl rfl)
theorem dX5_grant_32 : decode cX5_grant 32 = .ok (.getfield 86, 3) := dk_180 0 86 (dk_at dksX5_grant_1 8 rfl rfl)
theorem dX5_grant_35 : decode cX5_grant 35 = .ok (.iload_n 1, 1) := dk_27 (dk_at dksX5_grant_1 11 rfl rfl)
theorem dX5_grant_36 : decode cX5_grant 36 = .ok (.aload_n 0, 1) := dk_42 (dk_at dksX5_grant_1 12 rfl rfl)
theorem dX5_grant_37 : decode cX5_grant 37 = .ok (.iload_n 2, 1) := dk_28 (dk_at dksX5_grant_1 13 rfl rfl)
theorem dX5_grant_38 : decode cX5_grant 38 = .ok (.iconst (-1), 1) := dk_2 (dk_at dksX5_grant_1 14 rfl rfl)
theorem dX5_grant_39 : decode cX5_grant 39 = .ok (.invokevirtual 328, 3) := dk_182 1 72 (dk_at dksX5_grant_1 15 rfl rfl)
theorem dX5_grant_42 : decode cX5_grant 42 = .ok (.iastore, 1) := dk_79 (dk_at dksX5_grant_1 18 rfl rfl)
theorem dX5_grant_43 : decode cX5_grant 43 = .ok (.iconst 0, 1) := dk_3 (dk_at dksX5_grant_1 19 rfl rfl)
theorem dX5_grant_44 : decode cX5_grant 44 = .ok (.istore_n 3, 1) := dk_62 (dk_at dksX5_grant_1 20 rfl rfl)
theorem dX5_grant_45 : decode cX5_grant 45 = .ok (.iload_n 3, 1) := dk_29 (dk_at dksX5_grant_1 21 rfl rfl)
theorem dX5_grant_46 : decode cX5_grant 46 = .ok (.iconst 3, 1) := dk_6 (dk_at dksX5_grant_1 22 rfl rfl)
theorem dX5_grant_47 : decode cX5_grant 47 = .ok (.if_icmp .ge 34, 3) := dk_162 0 34 (dk_at dksX5_grant_2 0 rfl rfl)
theorem dX5_grant_50 : decode cX5_grant 50 = .ok (.aload_n 0, 1) := dk_42 (dk_at dksX5_grant_2 3 rfl rfl)
theorem dX5_grant_51 : decode cX5_grant 51 = .ok (.getfield 107, 3) := dk_180 0 107 (dk_at dksX5_grant_2 4 rfl rfl)
theorem dX5_grant_54 : decode cX5_grant 54 = .ok (.iconst 3, 1) := dk_6 (dk_at dksX5_grant_2 7 rfl rfl)
theorem dX5_grant_55 : decode cX5_grant 55 = .ok (.aload_n 0, 1) := dk_42 (dk_at dksX5_grant_2 8 rfl rfl)
theorem dX5_grant_56 : decode cX5_grant 56 = .ok (.getfield 86, 3) := dk_180 0 86 (dk_at dksX5_grant_2 9 rfl rfl)
theorem dX5_grant_59 : decode cX5_grant 59 = .ok (.iload_n 1, 1) := dk_27 (dk_at dksX5_grant_2 12 rfl rfl)
theorem dX5_grant_60 : decode cX5_grant 60 = .ok (.iaload, 1) := dk_46 (dk_at dksX5_grant_2 13 rfl rfl)
theorem dX5_grant_61 : decode cX5_grant 61 = .ok (.imul, 1) := dk_104 (dk_at dksX5_grant_2 14 rfl rfl)
theorem dX5_grant_62 : decode cX5_grant 62 = .ok (.iload_n 3, 1) := dk_29 (dk_at dksX5_grant_2 15 rfl rfl)
theorem dX5_grant_63 : decode cX5_grant 63 = .ok (.iadd, 1) := dk_96 (dk_at dksX5_grant_2 16 rfl rfl)
theorem dX5_grant_64 : decode cX5_grant 64 = .ok (.aload_n 0, 1) := dk_42 (dk_at dksX5_grant_2 17 rfl rfl)
theorem dX5_grant_65 : decode cX5_grant 65 = .ok (.getfield 89, 3) := dk_180 0 89 (dk_at dksX5_grant_2 18 rfl rfl)
theorem dX5_grant_68 : decode cX5_grant 68 = .ok (.iconst 3, 1) := dk_6 (dk_at dksX5_grant_2 21 rfl rfl)
theorem dX5_grant_69 : decode cX5_grant 69 = .ok (.iload_n 1, 1) := dk_27 (dk_at dksX5_grant_2 22 rfl rfl)
theorem dX5_grant_70 : decode cX5_grant 70 = .ok (.imul, 1) := dk_104 (dk_at dksX5_grant_2 23 rfl rfl)
theorem dX5_grant_71 : decode cX5_grant 71 = .ok (.iload_n 3, 1) := dk_29 (dk_at dksX5_grant_3 0 rfl rfl)
theorem dX5_grant_72 : decode cX5_grant 72 = .ok (.iadd, 1) := dk_96 (dk_at dksX5_grant_3 1 rfl rfl)
theorem dX5_grant_73 : decode cX5_grant 73 = .ok (.iaload, 1) := dk_46 (dk_at dksX5_grant_3 2 rfl rfl)
theorem dX5_grant_74 : decode cX5_grant 74 = .ok (.iastore, 1) := dk_79 (dk_at dksX5_grant_3 3 rfl rfl)
theorem dX5_grant_75 : decode cX5_grant 75 = .ok (.iinc 3 1, 3) := dk_132 3 1 (dk_at dksX5_grant_3 4 rfl rfl)
theorem dX5_grant_78 : decode cX5_grant 78 = .ok (.goto (-33), 3) := dk_167 255 223 (dk_at dksX5_grant_3 7 rfl rfl)
theorem dX5_grant_81 : decode cX5_grant 81 = .ok (.aload_n 0, 1) := dk_42 (dk_at dksX5_grant_3 10 rfl rfl)
theorem dX5_grant_82 : decode cX5_grant 82 = .ok (.getfield 22, 3) := dk_180 0 22 (dk_at dksX5_grant_3 11 rfl rfl)
theorem dX5_grant_85 : decode cX5_grant 85 = .ok (.bipush 6, 2) := dk_16 6 (dk_at dksX5_grant_3 14 rfl rfl)
theorem dX5_grant_87 : decode cX5_grant 87 = .ok (.iload_n 2, 1) := dk_28 (dk_at dksX5_grant_3 16 rfl rfl)
theorem dX5_grant_88 : decode cX5_grant 88 = .ok (.imul, 1) := dk_104 (dk_at dksX5_grant_3 17 rfl rfl)
theorem dX5_grant_89 : decode cX5_grant 89 = .ok (.aload_n 0, 1) := dk_42 (dk_at dksX5_grant_3 18 rfl rfl)
theorem dX5_grant_90 : decode cX5_grant 90 = .ok (.getfield 65, 3) := dk_180 0 65 (dk_at dksX5_grant_3 19 rfl rfl)
theorem dX5_grant_93 : decode cX5_grant 93 = .ok (.iload_n 1, 1) := dk_27 (dk_at dksX5_grant_3 22 rfl rfl)
theorem dX5_grant_94 : decode cX5_grant 94 = .ok (.iaload, 1) := dk_46 (dk_at dksX5_grant_3 23 rfl rfl)
theorem dX5_grant_95 : decode cX5_grant 95 = .ok (.iadd, 1) := dk_96 (dk_at dksX5_grant_4 0 rfl rfl)
theorem dX5_grant_96 : decode cX5_grant 96 = .ok (.iconst 1, 1) := dk_4 (dk_at dksX5_grant_4 1 rfl rfl)
theorem dX5_grant_97 : decode cX5_grant 97 = .ok (.bastore, 1) := dk_84 (dk_at dksX5_grant_4 2 rfl rfl)
theorem dX5_grant_98 : decode cX5_grant 98 = .ok (.aload_n 0, 1) := dk_42 (dk_at dksX5_grant_4 3 rfl rfl)
theorem dX5_grant_99 : decode cX5_grant 99 = .ok (.getfield 26, 3) := dk_180 0 26 (dk_at dksX5_grant_4 4 rfl rfl)
theorem dX5_grant_102 : decode cX5_grant 102 = .ok (.bipush 6, 2) := dk_16 6 (dk_at dksX5_grant_4 7 rfl rfl)
theorem dX5_grant_104 : decode cX5_grant 104 = .ok (.iload_n 2, 1) := dk_28 (dk_at dksX5_grant_4 9 rfl rfl)
theorem dX5_grant_105 : decode cX5_grant 105 = .ok (.imul, 1) := dk_104 (dk_at dksX5_grant_4 10 rfl rfl)
theorem dX5_grant_106 : decode cX5_grant 106 = .ok (.aload_n 0, 1) := dk_42 (dk_at dksX5_grant_4 11 rfl rfl)
theorem dX5_grant_107 : decode cX5_grant 107 = .ok (.getfield 68, 3) := dk_180 0 68 (dk_at dksX5_grant_4 12 rfl rfl)
theorem dX5_grant_110 : decode cX5_grant 110 = .ok (.iload_n 1, 1) := dk_27 (dk_at dksX5_grant_4 15 rfl rfl)
theorem dX5_grant_111 : decode cX5_grant 111 = .ok (.iaload, 1) := dk_46 (dk_at dksX5_grant_4 16 rfl rfl)
theorem dX5_grant_112 : decode cX5_grant 112 = .ok (.iadd, 1) := dk_96 (dk_at dksX5_grant_4 17 rfl rfl)
theorem dX5_grant_113 : decode cX5_grant 113 = .ok (.iconst 1, 1) := dk_4 (dk_at dksX5_grant_4 18 rfl rfl)
theorem dX5_grant_114 : decode cX5_grant 114 = .ok (.bastore, 1) := dk_84 (dk_at dksX5_grant_4 19 rfl rfl)
theorem dX5_grant_115 : decode cX5_grant 115 = .ok (.return_, 1) := dk_177 (dk_at dksX5_grant_4 20 rfl rfl)
abbrev cX5_newSession : ByteArray := prog_14_method_46_code
def yX5_newSession : MethodName := ⟨RX5, "newSession", "(II)I"⟩
def dkwX5_newSession_3 : List UInt8 := [167, 255, 235, 42, 89, 180, 0, 235, 4, 96, 181, 0, 235, 42, 3, 29, 182, 0, 255, 29, 172]
abbrev dktX5_newSession_3 : List UInt8 := dkwX5_newSession_3 ++ []
def dkwX5_newSession_2 : List UInt8 := [54, 4, 21, 4, 6, 162, 0, 21, 42, 180, 0, 107, 6, 29, 104, 21, 4, 96, 2, 79, 132, 4, 1]
abbrev dktX5_newSession_2 : List UInt8 := dkwX5_newSession_2 ++ dktX5_newSession_3
def dkwX5_newSession_1 : List UInt8 := [180, 0, 98, 29, 42, 180, 0, 247, 79, 42, 180, 0, 101, 29, 28, 79, 42, 180, 0, 104, 29, 4, 84, 3]
abbrev dktX5_newSession_1 : List UInt8 := dkwX5_newSession_1 ++ dktX5_newSession_2
def dkwX5_newSession_0 : List UInt8 := [42, 180, 0, 235, 62, 42, 180, 0, 92, 29, 27, 79, 42, 180, 0, 95, 29, 42, 180, 0, 247, 79, 42]
abbrev dktX5_newSession_0 : List UInt8 := dkwX5_newSession_0 ++ dktX5_newSession_1
theorem dksX5_newSession_0 : cX5_newSession.data.toList.drop 0 = dktX5_newSession_0 := by decide +kernel
theorem dksX5_newSession_1 : cX5_newSession.data.toList.drop 23 = dktX5_newSession_1 := dk_seg dksX5_newSession_0 23 rfl rfl
theorem dksX5_newSession_2 : cX5_newSession.data.toList.drop 47 = dktX5_newSession_2 := dk_seg dksX5_newSession_1 24 rfl rfl
theorem dksX5_newSession_3 : cX5_newSession.data.toList.drop 70 = dktX5_newSession_3 := dk_seg dksX5_newSession_2 23 rfl rfl
theorem dX5_newSession_0 : decode cX5_newSession 0 = .ok (.aload_n 0, 1) := dk_42 (dk_at dksX5_newSession_0 0 rfl rfl)
theorem dX5_newSession_1 : decode cX5_newSession 1 = .ok (.getfield 235, 3) := dk_180 0 235 (dk_at dksX5_newSession_0 1 rfl rfl)
theorem dX5_newSession_4 : decode cX5_newSession 4 = .ok (.istore_n 3, 1) := dk_62 (dk_at dksX5_newSession_0 4 rfl rfl)
theorem dX5_newSession_5 : decode cX5_newSession 5 = .ok (.aload_n 0, 1) := dk_42 (dk_at dksX5_newSession_0 5 rfl rfl)
theorem dX5_newSession_6 : decode cX5_newSession 6 = .ok (.getfield 92, 3) := dk_180 0 92 (dk_at dksX5_newSession_0 6 rfl rfl)
theorem dX5_newSession_9 : decode cX5_newSession 9 = .ok (.iload_n 3, 1) := dk_29 (dk_at dksX5_newSession_0 9 rfl rfl)
theorem dX5_newSession_10 : decode cX5_newSession 10 = .ok (.iload_n 1, 1) := dk_27 (dk_at dksX5_newSession_0 10 rfl rfl)
theorem dX5_newSession_11 : decode cX5_newSession 11 = .ok (.iastore, 1) := dk_79 (dk_at dksX5_newSession_0 11 rfl rfl)
theorem dX5_newSession_12 : decode cX5_newSession 12 = .ok (.aload_n 0, 1) := dk_42 (dk_at dksX5_newSession_0 12 rfl rfl)
theorem dX5_newSession_13 : decode cX5_newSession 13 = .ok (.getfield 95, 3) := dk_180 0 95 (dk_at dksX5_newSession_0 13 rfl rfl)
theorem dX5_newSession_16 : decode cX5_newSession 16 = .ok (.iload_n 3, 1) := dk_29 (dk_at dksX5_newSession_0 16 rfl rfl)
theorem dX5_newSession_17 : decode cX5_newSession 17 = .ok (.aload_n 0, 1) := dk_42 (dk_at dksX5_newSession_0 17 rfl rfl)
theorem dX5_newSession_18 : decode cX5_newSession 18 = .ok (.getfield 247, 3) := dk_180 0 247 (dk_at dksX5_newSession_0 18 rfl rfl)
theorem dX5_newSession_21 : decode cX5_newSession 21 = .ok (.iastore, 1) := dk_79 (dk_at dksX5_newSession_0 21 rfl rfl)
theorem dX5_newSession_22 : decode cX5_newSession 22 = .ok (.aload_n 0, 1) := dk_42 (dk_at dksX5_newSession_0 22 rfl rfl)
theorem dX5_newSession_23 : decode cX5_newSession 23 = .ok (.getfield 98, 3) := dk_180 0 98 (dk_at dksX5_newSession_1 0 rfl rfl)
theorem dX5_newSession_26 : decode cX5_newSession 26 = .ok (.iload_n 3, 1) := dk_29 (dk_at dksX5_newSession_1 3 rfl rfl)
theorem dX5_newSession_27 : decode cX5_newSession 27 = .ok (.aload_n 0, 1) := dk_42 (dk_at dksX5_newSession_1 4 rfl rfl)
theorem dX5_newSession_28 : decode cX5_newSession 28 = .ok (.getfield 247, 3) := dk_180 0 247 (dk_at dksX5_newSession_1 5 rfl rfl)
theorem dX5_newSession_31 : decode cX5_newSession 31 = .ok (.iastore, 1) := dk_79 (dk_at dksX5_newSession_1 8 rfl rfl)
theorem dX5_newSession_32 : decode cX5_newSession 32 = .ok (.aload_n 0, 1) := dk_42 (dk_at dksX5_newSession_1 9 rfl rfl)
theorem dX5_newSession_33 : decode cX5_newSession 33 = .ok (.getfield 101, 3) := dk_180 0 101 (dk_at dksX5_newSession_1 10 rfl rfl)
theorem dX5_newSession_36 : decode cX5_newSession 36 = .ok (.iload_n 3, 1) := dk_29 (dk_at dksX5_newSession_1 13 rfl rfl)
theorem dX5_newSession_37 : decode cX5_newSession 37 = .ok (.iload_n 2, 1) := dk_28 (dk_at dksX5_newSession_1 14 rfl rfl)
theorem dX5_newSession_38 : decode cX5_newSession 38 = .ok (.iastore, 1) := dk_79 (dk_at dksX5_newSession_1 15 rfl rfl)
theorem dX5_newSession_39 : decode cX5_newSession 39 = .ok (.aload_n 0, 1) := dk_42 (dk_at dksX5_newSession_1 16 rfl rfl)
theorem dX5_newSession_40 : decode cX5_newSession 40 = .ok (.getfield 104, 3) := dk_180 0 104 (dk_at dksX5_newSession_1 17 rfl rfl)
theorem dX5_newSession_43 : decode cX5_newSession 43 = .ok (.iload_n 3, 1) := dk_29 (dk_at dksX5_newSession_1 20 rfl rfl)
theorem dX5_newSession_44 : decode cX5_newSession 44 = .ok (.iconst 1, 1) := dk_4 (dk_at dksX5_newSession_1 21 rfl rfl)
theorem dX5_newSession_45 : decode cX5_newSession 45 = .ok (.bastore, 1) := dk_84 (dk_at dksX5_newSession_1 22 rfl rfl)
theorem dX5_newSession_46 : decode cX5_newSession 46 = .ok (.iconst 0, 1) := dk_3 (dk_at dksX5_newSession_1 23 rfl rfl)
theorem dX5_newSession_47 : decode cX5_newSession 47 = .ok (.istore 4, 2) := dk_54 4 (dk_at dksX5_newSession_2 0 rfl rfl)
theorem dX5_newSession_49 : decode cX5_newSession 49 = .ok (.iload 4, 2) := dk_21 4 (dk_at dksX5_newSession_2 2 rfl rfl)
theorem dX5_newSession_51 : decode cX5_newSession 51 = .ok (.iconst 3, 1) := dk_6 (dk_at dksX5_newSession_2 4 rfl rfl)
theorem dX5_newSession_52 : decode cX5_newSession 52 = .ok (.if_icmp .ge 21, 3) := dk_162 0 21 (dk_at dksX5_newSession_2 5 rfl rfl)
theorem dX5_newSession_55 : decode cX5_newSession 55 = .ok (.aload_n 0, 1) := dk_42 (dk_at dksX5_newSession_2 8 rfl rfl)
theorem dX5_newSession_56 : decode cX5_newSession 56 = .ok (.getfield 107, 3) := dk_180 0 107 (dk_at dksX5_newSession_2 9 rfl rfl)
theorem dX5_newSession_59 : decode cX5_newSession 59 = .ok (.iconst 3, 1) := dk_6 (dk_at dksX5_newSession_2 12 rfl rfl)
theorem dX5_newSession_60 : decode cX5_newSession 60 = .ok (.iload_n 3, 1) := dk_29 (dk_at dksX5_newSession_2 13 rfl rfl)
theorem dX5_newSession_61 : decode cX5_newSession 61 = .ok (.imul, 1) := dk_104 (dk_at dksX5_newSession_2 14 rfl rfl)
theorem dX5_newSession_62 : decode cX5_newSession 62 = .ok (.iload 4, 2) := dk_21 4 (dk_at dksX5_newSession_2 15 rfl rfl)
theorem dX5_newSession_64 : decode cX5_newSession 64 = .ok (.iadd, 1) := dk_96 (dk_at dksX5_newSession_2 17 rfl rfl)
theorem dX5_newSession_65 : decode cX5_newSession 65 = .ok (.iconst (-1), 1) := dk_2 (dk_at dksX5_newSession_2 18 rfl rfl)
theorem dX5_newSession_66 : decode cX5_newSession 66 = .ok (.iastore, 1) := dk_79 (dk_at dksX5_newSession_2 19 rfl rfl)
theorem dX5_newSession_67 : decode cX5_newSession 67 = .ok (.iinc 4 1, 3) := dk_132 4 1 (dk_at dksX5_newSession_2 20 rfl rfl)
theorem dX5_newSession_70 : decode cX5_newSession 70 = .ok (.goto (-21), 3) := dk_167 255 235 (dk_at dksX5_newSession_3 0 rfl rfl)
theorem dX5_newSession_73 : decode cX5_newSession 73 = .ok (.aload_n 0, 1) := dk_42 (dk_at dksX5_newSession_3 3 rfl rfl)
theorem dX5_newSession_74 : decode cX5_newSession 74 = .ok (.dup, 1) := dk_89 (dk_at dksX5_newSession_3 4 rfl rfl)
theorem dX5_newSession_75 : decode cX5_newSession 75 = .ok (.getfield 235, 3) := dk_180 0 235 (dk_at dksX5_newSession_3 5 rfl rfl)
theorem dX5_newSession_78 : decode cX5_newSession 78 = .ok (.iconst 1, 1) := dk_4 (dk_at dksX5_newSession_3 8 rfl rfl)
theorem dX5_newSession_79 : decode cX5_newSession 79 = .ok (.iadd, 1) := dk_96 (dk_at dksX5_newSession_3 9 rfl rfl)
theorem dX5_newSession_80 : decode cX5_newSession 80 = .ok (.putfield 235, 3) := dk_181 0 235 (dk_at dksX5_newSession_3 10 rfl rfl)
theorem dX5_newSession_83 : decode cX5_newSession 83 = .ok (.aload_n 0, 1) := dk_42 (dk_at dksX5_newSession_3 13 rfl rfl)
theorem dX5_newSession_84 : decode cX5_newSession 84 = .ok (.iconst 0, 1) := dk_3 (dk_at dksX5_newSession_3 14 rfl rfl)
theorem dX5_newSession_85 : decode cX5_newSession 85 = .ok (.iload_n 3, 1) := dk_29 (dk_at dksX5_newSession_3 15 rfl rfl)
theorem dX5_newSession_86 : decode cX5_newSession 86 = .ok (.invokevirtual 255, 3) := dk_182 0 255 (dk_at dksX5_newSession_3 16 rfl rfl)
theorem dX5_newSession_89 : decode cX5_newSession 89 = .ok (.iload_n 3, 1) := dk_29 (dk_at dksX5_newSession_3 19 rfl rfl)
theorem dX5_newSession_90 : decode cX5_newSession 90 = .ok (.ireturn, 1) := dk_172 (dk_at dksX5_newSession_3 20 rfl rfl)
abbrev cX5_answer : ByteArray := prog_14_method_50_code
def yX5_answer : MethodName := ⟨RX5, "answer", "(IZI)I"⟩
def dkwX5_answer_8 : List UInt8 := [180, 0, 77, 27, 5, 79, 42, 180, 0, 77, 27, 46, 172]
abbrev dktX5_answer_8 : List UInt8 := dkwX5_answer_8 ++ []
def dkwX5_answer_7 : List UInt8 := [182, 1, 82, 42, 180, 0, 77, 27, 46, 154, 0, 21, 42, 180, 0, 83, 27, 46, 16, 12, 160, 0, 10, 42]
abbrev dktX5_answer_7 : List UInt8 := dkwX5_answer_7 ++ dktX5_answer_8
def dkwX5_answer_6 : List UInt8 := [180, 0, 80, 27, 46, 42, 180, 0, 44, 21, 5, 46, 160, 0, 15, 42, 27, 42, 180, 0, 50, 21, 5, 46]
abbrev dktX5_answer_6 : List UInt8 := dkwX5_answer_6 ++ dktX5_answer_7
def dkwX5_answer_5 : List UInt8 := [180, 0, 47, 21, 5, 46, 182, 1, 82, 167, 0, 41, 42, 180, 0, 80, 27, 92, 46, 4, 96, 79, 42]
abbrev dktX5_answer_5 : List UInt8 := dkwX5_answer_5 ++ dktX5_answer_6
def dkwX5_answer_4 : List UInt8 := [180, 0, 89, 6, 27, 104, 42, 180, 0, 41, 21, 5, 46, 96, 42, 180, 0, 247, 79, 42, 27, 42]
abbrev dktX5_answer_4 : List UInt8 := dkwX5_answer_4 ++ dktX5_answer_5
def dkwX5_answer_3 : List UInt8 := [79, 42, 42, 180, 0, 62, 27, 46, 42, 180, 0, 41, 21, 5, 46, 28, 29, 182, 1, 92, 153, 0, 38, 42]
abbrev dktX5_answer_3 : List UInt8 := dkwX5_answer_3 ++ dktX5_answer_4
def dkwX5_answer_2 : List UInt8 := [180, 0, 71, 27, 46, 104, 42, 180, 0, 74, 27, 46, 96, 54, 5, 42, 180, 0, 83, 27, 92, 46, 4, 96]
abbrev dktX5_answer_2 : List UInt8 := dkwX5_answer_2 ++ dktX5_answer_3
def dkwX5_answer_1 : List UInt8 := [180, 0, 77, 27, 46, 154, 0, 7, 4, 167, 0, 4, 3, 182, 1, 88, 154, 0, 5, 3, 172, 16, 12, 42]
abbrev dktX5_answer_1 : List UInt8 := dkwX5_answer_1 ++ dktX5_answer_2
def dkwX5_answer_0 : List UInt8 := [42, 27, 182, 1, 85, 54, 4, 42, 21, 4, 29, 3, 17, 39, 15, 184, 0, 228, 21, 4, 153, 0, 16, 42]
abbrev dktX5_answer_0 : List UInt8 := dkwX5_answer_0 ++ dktX5_answer_1
theorem dksX5_answer_0 : cX5_answer.data.toList.drop 0 = dktX5_answer_0 := by decide +kernel
theorem dksX5_answer_1 : cX5_answer.data.toList.drop 24 = dktX5_answer_1 := dk_seg dksX5_answer_0 24 rfl rfl
theorem dksX5_answer_2 : cX5_answer.data.toList.drop 48 = dktX5_answer_2 := dk_seg dksX5_answer_1 24 rfl rfl
theorem dksX5_answer_3 : cX5_answer.data.toList.drop 72 = dktX5_answer_3 := dk_seg dksX5_answer_2 24 rfl rfl
theorem dksX5_answer_4 : cX5_answer.data.toList.drop 96 = dktX5_answer_4 := dk_seg dksX5_answer_3 24 rfl rfl
theorem dksX5_answer_5 : cX5_answer.data.toList.drop 118 = dktX5_answer_5 := dk_seg dksX5_answer_4 22 rfl rfl
theorem dksX5_answer_6 : cX5_answer.data.toList.drop 141 = dktX5_answer_6 := dk_seg dksX5_answer_5 23 rfl rfl
theorem dksX5_answer_7 : cX5_answer.data.toList.drop 165 = dktX5_answer_7 := dk_seg dksX5_answer_6 24 rfl rfl
theorem dksX5_answer_8 : cX5_answer.data.toList.drop 189 = dktX5_answer_8 := dk_seg dksX5_answer_7 24 rfl rfl
theorem dX5_answer_0 : decode cX5_answer 0 = .ok (.aload_n 0, 1) := dk_42 (dk_at dksX5_answer_0 0 rfl rfl)
theorem dX5_answer_1 : decode cX5_answer 1 = .ok (.iload_n 1, 1) := dk_27 (dk_at dksX5_answer_0 1 rfl rfl)
theorem dX5_answer_2 : decode cX5_answer 2 = .ok (.invokevirtual 341, 3) := dk_182 1 85 (dk_at dksX5_answer_0 2 rfl rfl)
theorem dX5_answer_5 : decode cX5_answer 5 = .ok (.istore 4, 2) := dk_54 4 (dk_at dksX5_answer_0 5 rfl rfl)
theorem dX5_answer_7 : decode cX5_answer 7 = .ok (.aload_n 0, 1) := dk_42 (dk_at dksX5_answer_0 7 rfl rfl)
theorem dX5_answer_8 : decode cX5_answer 8 = .ok (.iload 4, 2) := dk_21 4 (dk_at dksX5_answer_0 8 rfl rfl)
theorem dX5_answer_10 : decode cX5_answer 10 = .ok (.iload_n 3, 1) := dk_29 (dk_at dksX5_answer_0 10 rfl rfl)
theorem dX5_answer_11 : decode cX5_answer 11 = .ok (.iconst 0, 1) := dk_3 (dk_at dksX5_answer_0 11 rfl rfl)
theorem dX5_answer_12 : decode cX5_answer 12 = .ok (.sipush 9999, 3) := dk_17 39 15 (dk_at dksX5_answer_0 12 rfl rfl)
theorem dX5_answer_15 : decode cX5_answer 15 = .ok (.invokestatic 228, 3) := dk_184 0 228 (dk_at dksX5_answer_0 15 rfl rfl)
theorem dX5_answer_18 : decode cX5_answer 18 = .ok (.iload 4, 2) := dk_21 4 (dk_at dksX5_answer_0 18 rfl rfl)
theorem dX5_answer_20 : decode cX5_answer 20 = .ok (.ifCond .eq 16, 3) := dk_153 0 16 (dk_at dksX5_answer_0 20 rfl rfl)
theorem dX5_answer_23 : decode cX5_answer 23 = .ok (.aload_n 0, 1) := dk_42 (dk_at dksX5_answer_0 23 rfl rfl)
theorem dX5_answer_24 : decode cX5_answer 24 = .ok (.getfield 77, 3) := dk_180 0 77 (dk_at dksX5_answer_1 0 rfl rfl)
theorem dX5_answer_27 : decode cX5_answer 27 = .ok (.iload_n 1, 1) := dk_27 (dk_at dksX5_answer_1 3 rfl rfl)
theorem dX5_answer_28 : decode cX5_answer 28 = .ok (.iaload, 1) := dk_46 (dk_at dksX5_answer_1 4 rfl rfl)
theorem dX5_answer_29 : decode cX5_answer 29 = .ok (.ifCond .ne 7, 3) := dk_154 0 7 (dk_at dksX5_answer_1 5 rfl rfl)
theorem dX5_answer_32 : decode cX5_answer 32 = .ok (.iconst 1, 1) := dk_4 (dk_at dksX5_answer_1 8 rfl rfl)
theorem dX5_answer_33 : decode cX5_answer 33 = .ok (.goto 4, 3) := dk_167 0 4 (dk_at dksX5_answer_1 9 rfl rfl)
theorem dX5_answer_36 : decode cX5_answer 36 = .ok (.iconst 0, 1) := dk_3 (dk_at dksX5_answer_1 12 rfl rfl)
theorem dX5_answer_37 : decode cX5_answer 37 = .ok (.invokevirtual 344, 3) := dk_182 1 88 (dk_at dksX5_answer_1 13 rfl rfl)
theorem dX5_answer_40 : decode cX5_answer 40 = .ok (.ifCond .ne 5, 3) := dk_154 0 5 (dk_at dksX5_answer_1 16 rfl rfl)
theorem dX5_answer_43 : decode cX5_answer 43 = .ok (.iconst 0, 1) := dk_3 (dk_at dksX5_answer_1 19 rfl rfl)
theorem dX5_answer_44 : decode cX5_answer 44 = .ok (.ireturn, 1) := dk_172 (dk_at dksX5_answer_1 20 rfl rfl)
theorem dX5_answer_45 : decode cX5_answer 45 = .ok (.bipush 12, 2) := dk_16 12 (dk_at dksX5_answer_1 21 rfl rfl)
theorem dX5_answer_47 : decode cX5_answer 47 = .ok (.aload_n 0, 1) := dk_42 (dk_at dksX5_answer_1 23 rfl rfl)
theorem dX5_answer_48 : decode cX5_answer 48 = .ok (.getfield 71, 3) := dk_180 0 71 (dk_at dksX5_answer_2 0 rfl rfl)
theorem dX5_answer_51 : decode cX5_answer 51 = .ok (.iload_n 1, 1) := dk_27 (dk_at dksX5_answer_2 3 rfl rfl)
theorem dX5_answer_52 : decode cX5_answer 52 = .ok (.iaload, 1) := dk_46 (dk_at dksX5_answer_2 4 rfl rfl)
theorem dX5_answer_53 : decode cX5_answer 53 = .ok (.imul, 1) := dk_104 (dk_at dksX5_answer_2 5 rfl rfl)
theorem dX5_answer_54 : decode cX5_answer 54 = .ok (.aload_n 0, 1) := dk_42 (dk_at dksX5_answer_2 6 rfl rfl)
theorem dX5_answer_55 : decode cX5_answer 55 = .ok (.getfield 74, 3) := dk_180 0 74 (dk_at dksX5_answer_2 7 rfl rfl)
theorem dX5_answer_58 : decode cX5_answer 58 = .ok (.iload_n 1, 1) := dk_27 (dk_at dksX5_answer_2 10 rfl rfl)
theorem dX5_answer_59 : decode cX5_answer 59 = .ok (.iaload, 1) := dk_46 (dk_at dksX5_answer_2 11 rfl rfl)
theorem dX5_answer_60 : decode cX5_answer 60 = .ok (.iadd, 1) := dk_96 (dk_at dksX5_answer_2 12 rfl rfl)
theorem dX5_answer_61 : decode cX5_answer 61 = .ok (.istore 5, 2) := dk_54 5 (dk_at dksX5_answer_2 13 rfl rfl)
theorem dX5_answer_63 : decode cX5_answer 63 = .ok (.aload_n 0, 1) := dk_42 (dk_at dksX5_answer_2 15 rfl rfl)
theorem dX5_answer_64 : decode cX5_answer 64 = .ok (.getfield 83, 3) := dk_180 0 83 (dk_at dksX5_answer_2 16 rfl rfl)
theorem dX5_answer_67 : decode cX5_answer 67 = .ok (.iload_n 1, 1) := dk_27 (dk_at dksX5_answer_2 19 rfl rfl)
theorem dX5_answer_68 : decode cX5_answer 68 = .ok (.dup2, 1) := dk_92 (dk_at dksX5_answer_2 20 rfl rfl)
theorem dX5_answer_69 : decode cX5_answer 69 = .ok (.iaload, 1) := dk_46 (dk_at dksX5_answer_2 21 rfl rfl)
theorem dX5_answer_70 : decode cX5_answer 70 = .ok (.iconst 1, 1) := dk_4 (dk_at dksX5_answer_2 22 rfl rfl)
theorem dX5_answer_71 : decode cX5_answer 71 = .ok (.iadd, 1) := dk_96 (dk_at dksX5_answer_2 23 rfl rfl)
theorem dX5_answer_72 : decode cX5_answer 72 = .ok (.iastore, 1) := dk_79 (dk_at dksX5_answer_3 0 rfl rfl)
theorem dX5_answer_73 : decode cX5_answer 73 = .ok (.aload_n 0, 1) := dk_42 (dk_at dksX5_answer_3 1 rfl rfl)
theorem dX5_answer_74 : decode cX5_answer 74 = .ok (.aload_n 0, 1) := dk_42 (dk_at dksX5_answer_3 2 rfl rfl)
theorem dX5_answer_75 : decode cX5_answer 75 = .ok (.getfield 62, 3) := dk_180 0 62 (dk_at dksX5_answer_3 3 rfl rfl)
theorem dX5_answer_78 : decode cX5_answer 78 = .ok (.iload_n 1, 1) := dk_27 (dk_at dksX5_answer_3 6 rfl rfl)
theorem dX5_answer_79 : decode cX5_answer 79 = .ok (.iaload, 1) := dk_46 (dk_at dksX5_answer_3 7 rfl rfl)
theorem dX5_answer_80 : decode cX5_answer 80 = .ok (.aload_n 0, 1) := dk_42 (dk_at dksX5_answer_3 8 rfl rfl)
theorem dX5_answer_81 : decode cX5_answer 81 = .ok (.getfield 41, 3) := dk_180 0 41 (dk_at dksX5_answer_3 9 rfl rfl)
theorem dX5_answer_84 : decode cX5_answer 84 = .ok (.iload 5, 2) := dk_21 5 (dk_at dksX5_answer_3 12 rfl rfl)
theorem dX5_answer_86 : decode cX5_answer 86 = .ok (.iaload, 1) := dk_46 (dk_at dksX5_answer_3 14 rfl rfl)
theorem dX5_answer_87 : decode cX5_answer 87 = .ok (.iload_n 2, 1) := dk_28 (dk_at dksX5_answer_3 15 rfl rfl)
theorem dX5_answer_88 : decode cX5_answer 88 = .ok (.iload_n 3, 1) := dk_29 (dk_at dksX5_answer_3 16 rfl rfl)
theorem dX5_answer_89 : decode cX5_answer 89 = .ok (.invokevirtual 348, 3) := dk_182 1 92 (dk_at dksX5_answer_3 17 rfl rfl)
theorem dX5_answer_92 : decode cX5_answer 92 = .ok (.ifCond .eq 38, 3) := dk_153 0 38 (dk_at dksX5_answer_3 20 rfl rfl)
theorem dX5_answer_95 : decode cX5_answer 95 = .ok (.aload_n 0, 1) := dk_42 (dk_at dksX5_answer_3 23 rfl rfl)
theorem dX5_answer_96 : decode cX5_answer 96 = .ok (.getfield 89, 3) := dk_180 0 89 (dk_at dksX5_answer_4 0 rfl rfl)
theorem dX5_answer_99 : decode cX5_answer 99 = .ok (.iconst 3, 1) := dk_6 (dk_at dksX5_answer_4 3 rfl rfl)
theorem dX5_answer_100 : decode cX5_answer 100 = .ok (.iload_n 1, 1) := dk_27 (dk_at dksX5_answer_4 4 rfl rfl)
theorem dX5_answer_101 : decode cX5_answer 101 = .ok (.imul, 1) := dk_104 (dk_at dksX5_answer_4 5 rfl rfl)
theorem dX5_answer_102 : decode cX5_answer 102 = .ok (.aload_n 0, 1) := dk_42 (dk_at dksX5_answer_4 6 rfl rfl)
theorem dX5_answer_103 : decode cX5_answer 103 = .ok (.getfield 41, 3) := dk_180 0 41 (dk_at dksX5_answer_4 7 rfl rfl)
theorem dX5_answer_106 : decode cX5_answer 106 = .ok (.iload 5, 2) := dk_21 5 (dk_at dksX5_answer_4 10 rfl rfl)
theorem dX5_answer_108 : decode cX5_answer 108 = .ok (.iaload, 1) := dk_46 (dk_at dksX5_answer_4 12 rfl rfl)
theorem dX5_answer_109 : decode cX5_answer 109 = .ok (.iadd, 1) := dk_96 (dk_at dksX5_answer_4 13 rfl rfl)
theorem dX5_answer_110 : decode cX5_answer 110 = .ok (.aload_n 0, 1) := dk_42 (dk_at dksX5_answer_4 14 rfl rfl)
theorem dX5_answer_111 : decode cX5_answer 111 = .ok (.getfield 247, 3) := dk_180 0 247 (dk_at dksX5_answer_4 15 rfl rfl)
theorem dX5_answer_114 : decode cX5_answer 114 = .ok (.iastore, 1) := dk_79 (dk_at dksX5_answer_4 18 rfl rfl)
theorem dX5_answer_115 : decode cX5_answer 115 = .ok (.aload_n 0, 1) := dk_42 (dk_at dksX5_answer_4 19 rfl rfl)
theorem dX5_answer_116 : decode cX5_answer 116 = .ok (.iload_n 1, 1) := dk_27 (dk_at dksX5_answer_4 20 rfl rfl)
theorem dX5_answer_117 : decode cX5_answer 117 = .ok (.aload_n 0, 1) := dk_42 (dk_at dksX5_answer_4 21 rfl rfl)
theorem dX5_answer_118 : decode cX5_answer 118 = .ok (.getfield 47, 3) := dk_180 0 47 (dk_at dksX5_answer_5 0 rfl rfl)
theorem dX5_answer_121 : decode cX5_answer 121 = .ok (.iload 5, 2) := dk_21 5 (dk_at dksX5_answer_5 3 rfl rfl)
theorem dX5_answer_123 : decode cX5_answer 123 = .ok (.iaload, 1) := dk_46 (dk_at dksX5_answer_5 5 rfl rfl)
theorem dX5_answer_124 : decode cX5_answer 124 = .ok (.invokevirtual 338, 3) := dk_182 1 82 (dk_at dksX5_answer_5 6 rfl rfl)
theorem dX5_answer_127 : decode cX5_answer 127 = .ok (.goto 41, 3) := dk_167 0 41 (dk_at dksX5_answer_5 9 rfl rfl)
theorem dX5_answer_130 : decode cX5_answer 130 = .ok (.aload_n 0, 1) := dk_42 (dk_at dksX5_answer_5 12 rfl rfl)
theorem dX5_answer_131 : decode cX5_answer 131 = .ok (.getfield 80, 3) := dk_180 0 80 (dk_at dksX5_answer_5 13 rfl rfl)
theorem dX5_answer_134 : decode cX5_answer 134 = .ok (.iload_n 1, 1) := dk_27 (dk_at dksX5_answer_5 16 rfl rfl)
theorem dX5_answer_135 : decode cX5_answer 135 = .ok (.dup2, 1) := dk_92 (dk_at dksX5_answer_5 17 rfl rfl)
theorem dX5_answer_136 : decode cX5_answer 136 = .ok (.iaload, 1) := dk_46 (dk_at dksX5_answer_5 18 rfl rfl)
theorem dX5_answer_137 : decode cX5_answer 137 = .ok (.iconst 1, 1) := dk_4 (dk_at dksX5_answer_5 19 rfl rfl)
theorem dX5_answer_138 : decode cX5_answer 138 = .ok (.iadd, 1) := dk_96 (dk_at dksX5_answer_5 20 rfl rfl)
theorem dX5_answer_139 : decode cX5_answer 139 = .ok (.iastore, 1) := dk_79 (dk_at dksX5_answer_5 21 rfl rfl)
theorem dX5_answer_140 : decode cX5_answer 140 = .ok (.aload_n 0, 1) := dk_42 (dk_at dksX5_answer_5 22 rfl rfl)
theorem dX5_answer_141 : decode cX5_answer 141 = .ok (.getfield 80, 3) := dk_180 0 80 (dk_at dksX5_answer_6 0 rfl rfl)
theorem dX5_answer_144 : decode cX5_answer 144 = .ok (.iload_n 1, 1) := dk_27 (dk_at dksX5_answer_6 3 rfl rfl)
theorem dX5_answer_145 : decode cX5_answer 145 = .ok (.iaload, 1) := dk_46 (dk_at dksX5_answer_6 4 rfl rfl)
theorem dX5_answer_146 : decode cX5_answer 146 = .ok (.aload_n 0, 1) := dk_42 (dk_at dksX5_answer_6 5 rfl rfl)
theorem dX5_answer_147 : decode cX5_answer 147 = .ok (.getfield 44, 3) := dk_180 0 44 (dk_at dksX5_answer_6 6 rfl rfl)
theorem dX5_answer_150 : decode cX5_answer 150 = .ok (.iload 5, 2) := dk_21 5 (dk_at dksX5_answer_6 9 rfl rfl)
theorem dX5_answer_152 : decode cX5_answer 152 = .ok (.iaload, 1) := dk_46 (dk_at dksX5_answer_6 11 rfl rfl)
theorem dX5_answer_153 : decode cX5_answer 153 = .ok (.if_icmp .ne 15, 3) := dk_160 0 15 (dk_at dksX5_answer_6 12 rfl rfl)
theorem dX5_answer_156 : decode cX5_answer 156 = .ok (.aload_n 0, 1) := dk_42 (dk_at dksX5_answer_6 15 rfl rfl)
theorem dX5_answer_157 : decode cX5_answer 157 = .ok (.iload_n 1, 1) := dk_27 (dk_at dksX5_answer_6 16 rfl rfl)
theorem dX5_answer_158 : decode cX5_answer 158 = .ok (.aload_n 0, 1) := dk_42 (dk_at dksX5_answer_6 17 rfl rfl)
theorem dX5_answer_159 : decode cX5_answer 159 = .ok (.getfield 50, 3) := dk_180 0 50 (dk_at dksX5_answer_6 18 rfl rfl)
theorem dX5_answer_162 : decode cX5_answer 162 = .ok (.iload 5, 2) := dk_21 5 (dk_at dksX5_answer_6 21 rfl rfl)
theorem dX5_answer_164 : decode cX5_answer 164 = .ok (.iaload, 1) := dk_46 (dk_at dksX5_answer_6 23 rfl rfl)
theorem dX5_answer_165 : decode cX5_answer 165 = .ok (.invokevirtual 338, 3) := dk_182 1 82 (dk_at dksX5_answer_7 0 rfl rfl)
theorem dX5_answer_168 : decode cX5_answer 168 = .ok (.aload_n 0, 1) := dk_42 (dk_at dksX5_answer_7 3 rfl rfl)
theorem dX5_answer_169 : decode cX5_answer 169 = .ok (.getfield 77, 3) := dk_180 0 77 (dk_at dksX5_answer_7 4 rfl rfl)
theorem dX5_answer_172 : decode cX5_answer 172 = .ok (.iload_n 1, 1) := dk_27 (dk_at dksX5_answer_7 7 rfl rfl)
theorem dX5_answer_173 : decode cX5_answer 173 = .ok (.iaload, 1) := dk_46 (dk_at dksX5_answer_7 8 rfl rfl)
theorem dX5_answer_174 : decode cX5_answer 174 = .ok (.ifCond .ne 21, 3) := dk_154 0 21 (dk_at dksX5_answer_7 9 rfl rfl)
theorem dX5_answer_177 : decode cX5_answer 177 = .ok (.aload_n 0, 1) := dk_42 (dk_at dksX5_answer_7 12 rfl rfl)
theorem dX5_answer_178 : decode cX5_answer 178 = .ok (.getfield 83, 3) := dk_180 0 83 (dk_at dksX5_answer_7 13 rfl rfl)
theorem dX5_answer_181 : decode cX5_answer 181 = .ok (.iload_n 1, 1) := dk_27 (dk_at dksX5_answer_7 16 rfl rfl)
theorem dX5_answer_182 : decode cX5_answer 182 = .ok (.iaload, 1) := dk_46 (dk_at dksX5_answer_7 17 rfl rfl)
theorem dX5_answer_183 : decode cX5_answer 183 = .ok (.bipush 12, 2) := dk_16 12 (dk_at dksX5_answer_7 18 rfl rfl)
theorem dX5_answer_185 : decode cX5_answer 185 = .ok (.if_icmp .ne 10, 3) := dk_160 0 10 (dk_at dksX5_answer_7 20 rfl rfl)
theorem dX5_answer_188 : decode cX5_answer 188 = .ok (.aload_n 0, 1) := dk_42 (dk_at dksX5_answer_7 23 rfl rfl)
theorem dX5_answer_189 : decode cX5_answer 189 = .ok (.getfield 77, 3) := dk_180 0 77 (dk_at dksX5_answer_8 0 rfl rfl)
theorem dX5_answer_192 : decode cX5_answer 192 = .ok (.iload_n 1, 1) := dk_27 (dk_at dksX5_answer_8 3 rfl rfl)
theorem dX5_answer_193 : decode cX5_answer 193 = .ok (.iconst 2, 1) := dk_5 (dk_at dksX5_answer_8 4 rfl rfl)
theorem dX5_answer_194 : decode cX5_answer 194 = .ok (.iastore, 1) := dk_79 (dk_at dksX5_answer_8 5 rfl rfl)
theorem dX5_answer_195 : decode cX5_answer 195 = .ok (.aload_n 0, 1) := dk_42 (dk_at dksX5_answer_8 6 rfl rfl)
theorem dX5_answer_196 : decode cX5_answer 196 = .ok (.getfield 77, 3) := dk_180 0 77 (dk_at dksX5_answer_8 7 rfl rfl)
theorem dX5_answer_199 : decode cX5_answer 199 = .ok (.iload_n 1, 1) := dk_27 (dk_at dksX5_answer_8 10 rfl rfl)
theorem dX5_answer_200 : decode cX5_answer 200 = .ok (.iaload, 1) := dk_46 (dk_at dksX5_answer_8 11 rfl rfl)
theorem dX5_answer_201 : decode cX5_answer 201 = .ok (.ireturn, 1) := dk_172 (dk_at dksX5_answer_8 12 rfl rfl)
abbrev cX5_isAttempt : ByteArray := prog_14_method_10_code
def yX5_isAttempt : MethodName := ⟨RX5, "isAttempt", "(I)Z"⟩
def dkwX5_isAttempt_0 : List UInt8 := [27, 3, 42, 180, 0, 232, 4, 100, 184, 0, 228, 172]
abbrev dktX5_isAttempt_0 : List UInt8 := dkwX5_isAttempt_0 ++ []
theorem dksX5_isAttempt_0 : cX5_isAttempt.data.toList.drop 0 = dktX5_isAttempt_0 := by decide +kernel
theorem dX5_isAttempt_0 : decode cX5_isAttempt 0 = .ok (.iload_n 1, 1) := dk_27 (dk_at dksX5_isAttempt_0 0 rfl rfl)
theorem dX5_isAttempt_1 : decode cX5_isAttempt 1 = .ok (.iconst 0, 1) := dk_3 (dk_at dksX5_isAttempt_0 1 rfl rfl)
theorem dX5_isAttempt_2 : decode cX5_isAttempt 2 = .ok (.aload_n 0, 1) := dk_42 (dk_at dksX5_isAttempt_0 2 rfl rfl)
theorem dX5_isAttempt_3 : decode cX5_isAttempt 3 = .ok (.getfield 232, 3) := dk_180 0 232 (dk_at dksX5_isAttempt_0 3 rfl rfl)
theorem dX5_isAttempt_6 : decode cX5_isAttempt 6 = .ok (.iconst 1, 1) := dk_4 (dk_at dksX5_isAttempt_0 6 rfl rfl)
theorem dX5_isAttempt_7 : decode cX5_isAttempt 7 = .ok (.isub, 1) := dk_100 (dk_at dksX5_isAttempt_0 7 rfl rfl)
theorem dX5_isAttempt_8 : decode cX5_isAttempt 8 = .ok (.invokestatic 228, 3) := dk_184 0 228 (dk_at dksX5_isAttempt_0 8 rfl rfl)
theorem dX5_isAttempt_11 : decode cX5_isAttempt 11 = .ok (.ireturn, 1) := dk_172 (dk_at dksX5_isAttempt_0 11 rfl rfl)
abbrev cX5_mayAll : ByteArray := prog_14_method_5_code
def yX5_mayAll : MethodName := ⟨RX5, "mayAll", "(ZZZ)Z"⟩
def dkwX5_mayAll_1 : List UInt8 := [167, 0, 4, 3, 181, 0, 225, 42, 180, 0, 225, 154, 0, 7, 4, 167, 0, 4, 3, 172]
abbrev dktX5_mayAll_1 : List UInt8 := dkwX5_mayAll_1 ++ []
def dkwX5_mayAll_0 : List UInt8 := [42, 27, 154, 0, 7, 4, 167, 0, 20, 28, 154, 0, 7, 5, 167, 0, 12, 29, 154, 0, 7, 6]
abbrev dktX5_mayAll_0 : List UInt8 := dkwX5_mayAll_0 ++ dktX5_mayAll_1
theorem dksX5_mayAll_0 : cX5_mayAll.data.toList.drop 0 = dktX5_mayAll_0 := by decide +kernel
theorem dksX5_mayAll_1 : cX5_mayAll.data.toList.drop 22 = dktX5_mayAll_1 := dk_seg dksX5_mayAll_0 22 rfl rfl
theorem dX5_mayAll_0 : decode cX5_mayAll 0 = .ok (.aload_n 0, 1) := dk_42 (dk_at dksX5_mayAll_0 0 rfl rfl)
theorem dX5_mayAll_1 : decode cX5_mayAll 1 = .ok (.iload_n 1, 1) := dk_27 (dk_at dksX5_mayAll_0 1 rfl rfl)
theorem dX5_mayAll_2 : decode cX5_mayAll 2 = .ok (.ifCond .ne 7, 3) := dk_154 0 7 (dk_at dksX5_mayAll_0 2 rfl rfl)
theorem dX5_mayAll_5 : decode cX5_mayAll 5 = .ok (.iconst 1, 1) := dk_4 (dk_at dksX5_mayAll_0 5 rfl rfl)
theorem dX5_mayAll_6 : decode cX5_mayAll 6 = .ok (.goto 20, 3) := dk_167 0 20 (dk_at dksX5_mayAll_0 6 rfl rfl)
theorem dX5_mayAll_9 : decode cX5_mayAll 9 = .ok (.iload_n 2, 1) := dk_28 (dk_at dksX5_mayAll_0 9 rfl rfl)
theorem dX5_mayAll_10 : decode cX5_mayAll 10 = .ok (.ifCond .ne 7, 3) := dk_154 0 7 (dk_at dksX5_mayAll_0 10 rfl rfl)
theorem dX5_mayAll_13 : decode cX5_mayAll 13 = .ok (.iconst 2, 1) := dk_5 (dk_at dksX5_mayAll_0 13 rfl rfl)
theorem dX5_mayAll_14 : decode cX5_mayAll 14 = .ok (.goto 12, 3) := dk_167 0 12 (dk_at dksX5_mayAll_0 14 rfl rfl)
theorem dX5_mayAll_17 : decode cX5_mayAll 17 = .ok (.iload_n 3, 1) := dk_29 (dk_at dksX5_mayAll_0 17 rfl rfl)
theorem dX5_mayAll_18 : decode cX5_mayAll 18 = .ok (.ifCond .ne 7, 3) := dk_154 0 7 (dk_at dksX5_mayAll_0 18 rfl rfl)
theorem dX5_mayAll_21 : decode cX5_mayAll 21 = .ok (.iconst 3, 1) := dk_6 (dk_at dksX5_mayAll_0 21 rfl rfl)
theorem dX5_mayAll_22 : decode cX5_mayAll 22 = .ok (.goto 4, 3) := dk_167 0 4 (dk_at dksX5_mayAll_1 0 rfl rfl)
theorem dX5_mayAll_25 : decode cX5_mayAll 25 = .ok (.iconst 0, 1) := dk_3 (dk_at dksX5_mayAll_1 3 rfl rfl)
theorem dX5_mayAll_26 : decode cX5_mayAll 26 = .ok (.putfield 225, 3) := dk_181 0 225 (dk_at dksX5_mayAll_1 4 rfl rfl)
theorem dX5_mayAll_29 : decode cX5_mayAll 29 = .ok (.aload_n 0, 1) := dk_42 (dk_at dksX5_mayAll_1 7 rfl rfl)
theorem dX5_mayAll_30 : decode cX5_mayAll 30 = .ok (.getfield 225, 3) := dk_180 0 225 (dk_at dksX5_mayAll_1 8 rfl rfl)
theorem dX5_mayAll_33 : decode cX5_mayAll 33 = .ok (.ifCond .ne 7, 3) := dk_154 0 7 (dk_at dksX5_mayAll_1 11 rfl rfl)
theorem dX5_mayAll_36 : decode cX5_mayAll 36 = .ok (.iconst 1, 1) := dk_4 (dk_at dksX5_mayAll_1 14 rfl rfl)
theorem dX5_mayAll_37 : decode cX5_mayAll 37 = .ok (.goto 4, 3) := dk_167 0 4 (dk_at dksX5_mayAll_1 15 rfl rfl)
theorem dX5_mayAll_40 : decode cX5_mayAll 40 = .ok (.iconst 0, 1) := dk_3 (dk_at dksX5_mayAll_1 18 rfl rfl)
theorem dX5_mayAll_41 : decode cX5_mayAll 41 = .ok (.ireturn, 1) := dk_172 (dk_at dksX5_mayAll_1 19 rfl rfl)
abbrev cX5_answers : ByteArray := prog_14_method_30_code
def yX5_answers : MethodName := ⟨RX5, "answers", "(IIZI)Z"⟩
def dkwX5_answers_7 : List UInt8 := [27, 104, 5, 96, 42, 180, 0, 247, 79, 3, 172]
abbrev dktX5_answers_7 : List UInt8 := dkwX5_answers_7 ++ []
def dkwX5_answers_6 : List UInt8 := [180, 0, 19, 6, 27, 104, 4, 96, 42, 180, 0, 19, 6, 27, 104, 5, 96, 46, 79, 42, 180, 0, 19, 6]
abbrev dktX5_answers_6 : List UInt8 := dkwX5_answers_6 ++ dktX5_answers_7
def dkwX5_answers_5 : List UInt8 := [28, 182, 1, 38, 42, 180, 0, 19, 6, 27, 104, 42, 180, 0, 19, 6, 27, 104, 4, 96, 46, 79, 42]
abbrev dktX5_answers_5 : List UInt8 := dkwX5_answers_5 ++ dktX5_answers_6
def dkwX5_answers_4 : List UInt8 := [167, 0, 4, 4, 96, 79, 21, 6, 154, 0, 14, 42, 180, 0, 13, 21, 5, 46, 8, 160, 0, 9, 42, 27]
abbrev dktX5_answers_4 : List UInt8 := dkwX5_answers_4 ++ dktX5_answers_5
def dkwX5_answers_3 : List UInt8 := [180, 0, 16, 27, 21, 4, 79, 4, 172, 42, 180, 0, 13, 21, 5, 92, 46, 29, 153, 0, 7, 3]
abbrev dktX5_answers_3 : List UInt8 := dkwX5_answers_3 ++ dktX5_answers_4
def dkwX5_answers_2 : List UInt8 := [153, 0, 31, 21, 6, 154, 0, 26, 42, 180, 0, 13, 21, 5, 3, 79, 28, 5, 160, 0, 11, 42]
abbrev dktX5_answers_2 : List UInt8 := dkwX5_answers_2 ++ dktX5_answers_3
def dkwX5_answers_1 : List UInt8 := [153, 0, 18, 21, 4, 42, 180, 0, 16, 27, 46, 163, 0, 7, 4, 167, 0, 4, 3, 54, 6, 29]
abbrev dktX5_answers_1 : List UInt8 := dkwX5_answers_1 ++ dktX5_answers_2
def dkwX5_answers_0 : List UInt8 := [6, 27, 104, 28, 96, 54, 5, 42, 180, 0, 7, 21, 5, 46, 4, 160, 0, 103, 28, 5, 160, 0, 22, 29]
abbrev dktX5_answers_0 : List UInt8 := dkwX5_answers_0 ++ dktX5_answers_1
theorem dksX5_answers_0 : cX5_answers.data.toList.drop 0 = dktX5_answers_0 := by decide +kernel
theorem dksX5_answers_1 : cX5_answers.data.toList.drop 24 = dktX5_answers_1 := dk_seg dksX5_answers_0 24 rfl rfl
theorem dksX5_answers_2 : cX5_answers.data.toList.drop 46 = dktX5_answers_2 := dk_seg dksX5_answers_1 22 rfl rfl
theorem dksX5_answers_3 : cX5_answers.data.toList.drop 68 = dktX5_answers_3 := dk_seg dksX5_answers_2 22 rfl rfl
theorem dksX5_answers_4 : cX5_answers.data.toList.drop 90 = dktX5_answers_4 := dk_seg dksX5_answers_3 22 rfl rfl
theorem dksX5_answers_5 : cX5_answers.data.toList.drop 114 = dktX5_answers_5 := dk_seg dksX5_answers_4 24 rfl rfl
theorem dksX5_answers_6 : cX5_answers.data.toList.drop 137 = dktX5_answers_6 := dk_seg dksX5_answers_5 23 rfl rfl
theorem dksX5_answers_7 : cX5_answers.data.toList.drop 161 = dktX5_answers_7 := dk_seg dksX5_answers_6 24 rfl rfl
theorem dX5_answers_0 : decode cX5_answers 0 = .ok (.iconst 3, 1) := dk_6 (dk_at dksX5_answers_0 0 rfl rfl)
theorem dX5_answers_1 : decode cX5_answers 1 = .ok (.iload_n 1, 1) := dk_27 (dk_at dksX5_answers_0 1 rfl rfl)
theorem dX5_answers_2 : decode cX5_answers 2 = .ok (.imul, 1) := dk_104 (dk_at dksX5_answers_0 2 rfl rfl)
theorem dX5_answers_3 : decode cX5_answers 3 = .ok (.iload_n 2, 1) := dk_28 (dk_at dksX5_answers_0 3 rfl rfl)
theorem dX5_answers_4 : decode cX5_answers 4 = .ok (.iadd, 1) := dk_96 (dk_at dksX5_answers_0 4 rfl rfl)
theorem dX5_answers_5 : decode cX5_answers 5 = .ok (.istore 5, 2) := dk_54 5 (dk_at dksX5_answers_0 5 rfl rfl)
theorem dX5_answers_7 : decode cX5_answers 7 = .ok (.aload_n 0, 1) := dk_42 (dk_at dksX5_answers_0 7 rfl rfl)
theorem dX5_answers_8 : decode cX5_answers 8 = .ok (.getfield 7, 3) := dk_180 0 7 (dk_at dksX5_answers_0 8 rfl rfl)
theorem dX5_answers_11 : decode cX5_answers 11 = .ok (.iload 5, 2) := dk_21 5 (dk_at dksX5_answers_0 11 rfl rfl)
theorem dX5_answers_13 : decode cX5_answers 13 = .ok (.iaload, 1) := dk_46 (dk_at dksX5_answers_0 13 rfl rfl)
theorem dX5_answers_14 : decode cX5_answers 14 = .ok (.iconst 1, 1) := dk_4 (dk_at dksX5_answers_0 14 rfl rfl)
theorem dX5_answers_15 : decode cX5_answers 15 = .ok (.if_icmp .ne 103, 3) := dk_160 0 103 (dk_at dksX5_answers_0 15 rfl rfl)
theorem dX5_answers_18 : decode cX5_answers 18 = .ok (.iload_n 2, 1) := dk_28 (dk_at dksX5_answers_0 18 rfl rfl)
theorem dX5_answers_19 : decode cX5_answers 19 = .ok (.iconst 2, 1) := dk_5 (dk_at dksX5_answers_0 19 rfl rfl)
theorem dX5_answers_20 : decode cX5_answers 20 = .ok (.if_icmp .ne 22, 3) := dk_160 0 22 (dk_at dksX5_answers_0 20 rfl rfl)
theorem dX5_answers_23 : decode cX5_answers 23 = .ok (.iload_n 3, 1) := dk_29 (dk_at dksX5_answers_0 23 rfl rfl)
theorem dX5_answers_24 : decode cX5_answers 24 = .ok (.ifCond .eq 18, 3) := dk_153 0 18 (dk_at dksX5_answers_1 0 rfl rfl)
theorem dX5_answers_27 : decode cX5_answers 27 = .ok (.iload 4, 2) := dk_21 4 (dk_at dksX5_answers_1 3 rfl rfl)
theorem dX5_answers_29 : decode cX5_answers 29 = .ok (.aload_n 0, 1) := dk_42 (dk_at dksX5_answers_1 5 rfl rfl)
theorem dX5_answers_30 : decode cX5_answers 30 = .ok (.getfield 16, 3) := dk_180 0 16 (dk_at dksX5_answers_1 6 rfl rfl)
theorem dX5_answers_33 : decode cX5_answers 33 = .ok (.iload_n 1, 1) := dk_27 (dk_at dksX5_answers_1 9 rfl rfl)
theorem dX5_answers_34 : decode cX5_answers 34 = .ok (.iaload, 1) := dk_46 (dk_at dksX5_answers_1 10 rfl rfl)
theorem dX5_answers_35 : decode cX5_answers 35 = .ok (.if_icmp .gt 7, 3) := dk_163 0 7 (dk_at dksX5_answers_1 11 rfl rfl)
theorem dX5_answers_38 : decode cX5_answers 38 = .ok (.iconst 1, 1) := dk_4 (dk_at dksX5_answers_1 14 rfl rfl)
theorem dX5_answers_39 : decode cX5_answers 39 = .ok (.goto 4, 3) := dk_167 0 4 (dk_at dksX5_answers_1 15 rfl rfl)
theorem dX5_answers_42 : decode cX5_answers 42 = .ok (.iconst 0, 1) := dk_3 (dk_at dksX5_answers_1 18 rfl rfl)
theorem dX5_answers_43 : decode cX5_answers 43 = .ok (.istore 6, 2) := dk_54 6 (dk_at dksX5_answers_1 19 rfl rfl)
theorem dX5_answers_45 : decode cX5_answers 45 = .ok (.iload_n 3, 1) := dk_29 (dk_at dksX5_answers_1 21 rfl rfl)
theorem dX5_answers_46 : decode cX5_answers 46 = .ok (.ifCond .eq 31, 3) := dk_153 0 31 (dk_at dksX5_answers_2 0 rfl rfl)
theorem dX5_answers_49 : decode cX5_answers 49 = .ok (.iload 6, 2) := dk_21 6 (dk_at dksX5_answers_2 3 rfl rfl)
theorem dX5_answers_51 : decode cX5_answers 51 = .ok (.ifCond .ne 26, 3) := dk_154 0 26 (dk_at dksX5_answers_2 5 rfl rfl)
theorem dX5_answers_54 : decode cX5_answers 54 = .ok (.aload_n 0, 1) := dk_42 (dk_at dksX5_answers_2 8 rfl rfl)
theorem dX5_answers_55 : decode cX5_answers 55 = .ok (.getfield 13, 3) := dk_180 0 13 (dk_at dksX5_answers_2 9 rfl rfl)
theorem dX5_answers_58 : decode cX5_answers 58 = .ok (.iload 5, 2) := dk_21 5 (dk_at dksX5_answers_2 12 rfl rfl)
theorem dX5_answers_60 : decode cX5_answers 60 = .ok (.iconst 0, 1) := dk_3 (dk_at dksX5_answers_2 14 rfl rfl)
theorem dX5_answers_61 : decode cX5_answers 61 = .ok (.iastore, 1) := dk_79 (dk_at dksX5_answers_2 15 rfl rfl)
theorem dX5_answers_62 : decode cX5_answers 62 = .ok (.iload_n 2, 1) := dk_28 (dk_at dksX5_answers_2 16 rfl rfl)
theorem dX5_answers_63 : decode cX5_answers 63 = .ok (.iconst 2, 1) := dk_5 (dk_at dksX5_answers_2 17 rfl rfl)
theorem dX5_answers_64 : decode cX5_answers 64 = .ok (.if_icmp .ne 11, 3) := dk_160 0 11 (dk_at dksX5_answers_2 18 rfl rfl)
theorem dX5_answers_67 : decode cX5_answers 67 = .ok (.aload_n 0, 1) := dk_42 (dk_at dksX5_answers_2 21 rfl rfl)
theorem dX5_answers_68 : decode cX5_answers 68 = .ok (.getfield 16, 3) := dk_180 0 16 (dk_at dksX5_answers_3 0 rfl rfl)
theorem dX5_answers_71 : decode cX5_answers 71 = .ok (.iload_n 1, 1) := dk_27 (dk_at dksX5_answers_3 3 rfl rfl)
theorem dX5_answers_72 : decode cX5_answers 72 = .ok (.iload 4, 2) := dk_21 4 (dk_at dksX5_answers_3 4 rfl rfl)
theorem dX5_answers_74 : decode cX5_answers 74 = .ok (.iastore, 1) := dk_79 (dk_at dksX5_answers_3 6 rfl rfl)
theorem dX5_answers_75 : decode cX5_answers 75 = .ok (.iconst 1, 1) := dk_4 (dk_at dksX5_answers_3 7 rfl rfl)
theorem dX5_answers_76 : decode cX5_answers 76 = .ok (.ireturn, 1) := dk_172 (dk_at dksX5_answers_3 8 rfl rfl)
theorem dX5_answers_77 : decode cX5_answers 77 = .ok (.aload_n 0, 1) := dk_42 (dk_at dksX5_answers_3 9 rfl rfl)
theorem dX5_answers_78 : decode cX5_answers 78 = .ok (.getfield 13, 3) := dk_180 0 13 (dk_at dksX5_answers_3 10 rfl rfl)
theorem dX5_answers_81 : decode cX5_answers 81 = .ok (.iload 5, 2) := dk_21 5 (dk_at dksX5_answers_3 13 rfl rfl)
theorem dX5_answers_83 : decode cX5_answers 83 = .ok (.dup2, 1) := dk_92 (dk_at dksX5_answers_3 15 rfl rfl)
theorem dX5_answers_84 : decode cX5_answers 84 = .ok (.iaload, 1) := dk_46 (dk_at dksX5_answers_3 16 rfl rfl)
theorem dX5_answers_85 : decode cX5_answers 85 = .ok (.iload_n 3, 1) := dk_29 (dk_at dksX5_answers_3 17 rfl rfl)
theorem dX5_answers_86 : decode cX5_answers 86 = .ok (.ifCond .eq 7, 3) := dk_153 0 7 (dk_at dksX5_answers_3 18 rfl rfl)
theorem dX5_answers_89 : decode cX5_answers 89 = .ok (.iconst 0, 1) := dk_3 (dk_at dksX5_answers_3 21 rfl rfl)
theorem dX5_answers_90 : decode cX5_answers 90 = .ok (.goto 4, 3) := dk_167 0 4 (dk_at dksX5_answers_4 0 rfl rfl)
theorem dX5_answers_93 : decode cX5_answers 93 = .ok (.iconst 1, 1) := dk_4 (dk_at dksX5_answers_4 3 rfl rfl)
theorem dX5_answers_94 : decode cX5_answers 94 = .ok (.iadd, 1) := dk_96 (dk_at dksX5_answers_4 4 rfl rfl)
theorem dX5_answers_95 : decode cX5_answers 95 = .ok (.iastore, 1) := dk_79 (dk_at dksX5_answers_4 5 rfl rfl)
theorem dX5_answers_96 : decode cX5_answers 96 = .ok (.iload 6, 2) := dk_21 6 (dk_at dksX5_answers_4 6 rfl rfl)
theorem dX5_answers_98 : decode cX5_answers 98 = .ok (.ifCond .ne 14, 3) := dk_154 0 14 (dk_at dksX5_answers_4 8 rfl rfl)
theorem dX5_answers_101 : decode cX5_answers 101 = .ok (.aload_n 0, 1) := dk_42 (dk_at dksX5_answers_4 11 rfl rfl)
theorem dX5_answers_102 : decode cX5_answers 102 = .ok (.getfield 13, 3) := dk_180 0 13 (dk_at dksX5_answers_4 12 rfl rfl)
theorem dX5_answers_105 : decode cX5_answers 105 = .ok (.iload 5, 2) := dk_21 5 (dk_at dksX5_answers_4 15 rfl rfl)
theorem dX5_answers_107 : decode cX5_answers 107 = .ok (.iaload, 1) := dk_46 (dk_at dksX5_answers_4 17 rfl rfl)
theorem dX5_answers_108 : decode cX5_answers 108 = .ok (.iconst 5, 1) := dk_8 (dk_at dksX5_answers_4 18 rfl rfl)
theorem dX5_answers_109 : decode cX5_answers 109 = .ok (.if_icmp .ne 9, 3) := dk_160 0 9 (dk_at dksX5_answers_4 19 rfl rfl)
theorem dX5_answers_112 : decode cX5_answers 112 = .ok (.aload_n 0, 1) := dk_42 (dk_at dksX5_answers_4 22 rfl rfl)
theorem dX5_answers_113 : decode cX5_answers 113 = .ok (.iload_n 1, 1) := dk_27 (dk_at dksX5_answers_4 23 rfl rfl)
theorem dX5_answers_114 : decode cX5_answers 114 = .ok (.iload_n 2, 1) := dk_28 (dk_at dksX5_answers_5 0 rfl rfl)
theorem dX5_answers_115 : decode cX5_answers 115 = .ok (.invokevirtual 294, 3) := dk_182 1 38 (dk_at dksX5_answers_5 1 rfl rfl)
theorem dX5_answers_118 : decode cX5_answers 118 = .ok (.aload_n 0, 1) := dk_42 (dk_at dksX5_answers_5 4 rfl rfl)
theorem dX5_answers_119 : decode cX5_answers 119 = .ok (.getfield 19, 3) := dk_180 0 19 (dk_at dksX5_answers_5 5 rfl rfl)
theorem dX5_answers_122 : decode cX5_answers 122 = .ok (.iconst 3, 1) := dk_6 (dk_at dksX5_answers_5 8 rfl rfl)
theorem dX5_answers_123 : decode cX5_answers 123 = .ok (.iload_n 1, 1) := dk_27 (dk_at dksX5_answers_5 9 rfl rfl)
theorem dX5_answers_124 : decode cX5_answers 124 = .ok (.imul, 1) := dk_104 (dk_at dksX5_answers_5 10 rfl rfl)
theorem dX5_answers_125 : decode cX5_answers 125 = .ok (.aload_n 0, 1) := dk_42 (dk_at dksX5_answers_5 11 rfl rfl)
theorem dX5_answers_126 : decode cX5_answers 126 = .ok (.getfield 19, 3) := dk_180 0 19 (dk_at dksX5_answers_5 12 rfl rfl)
theorem dX5_answers_129 : decode cX5_answers 129 = .ok (.iconst 3, 1) := dk_6 (dk_at dksX5_answers_5 15 rfl rfl)
theorem dX5_answers_130 : decode cX5_answers 130 = .ok (.iload_n 1, 1) := dk_27 (dk_at dksX5_answers_5 16 rfl rfl)
theorem dX5_answers_131 : decode cX5_answers 131 = .ok (.imul, 1) := dk_104 (dk_at dksX5_answers_5 17 rfl rfl)
theorem dX5_answers_132 : decode cX5_answers 132 = .ok (.iconst 1, 1) := dk_4 (dk_at dksX5_answers_5 18 rfl rfl)
theorem dX5_answers_133 : decode cX5_answers 133 = .ok (.iadd, 1) := dk_96 (dk_at dksX5_answers_5 19 rfl rfl)
theorem dX5_answers_134 : decode cX5_answers 134 = .ok (.iaload, 1) := dk_46 (dk_at dksX5_answers_5 20 rfl rfl)
theorem dX5_answers_135 : decode cX5_answers 135 = .ok (.iastore, 1) := dk_79 (dk_at dksX5_answers_5 21 rfl rfl)
theorem dX5_answers_136 : decode cX5_answers 136 = .ok (.aload_n 0, 1) := dk_42 (dk_at dksX5_answers_5 22 rfl rfl)
theorem dX5_answers_137 : decode cX5_answers 137 = .ok (.getfield 19, 3) := dk_180 0 19 (dk_at dksX5_answers_6 0 rfl rfl)
theorem dX5_answers_140 : decode cX5_answers 140 = .ok (.iconst 3, 1) := dk_6 (dk_at dksX5_answers_6 3 rfl rfl)
theorem dX5_answers_141 : decode cX5_answers 141 = .ok (.iload_n 1, 1) := dk_27 (dk_at dksX5_answers_6 4 rfl rfl)
theorem dX5_answers_142 : decode cX5_answers 142 = .ok (.imul, 1) := dk_104 (dk_at dksX5_answers_6 5 rfl rfl)
theorem dX5_answers_143 : decode cX5_answers 143 = .ok (.iconst 1, 1) := dk_4 (dk_at dksX5_answers_6 6 rfl rfl)
theorem dX5_answers_144 : decode cX5_answers 144 = .ok (.iadd, 1) := dk_96 (dk_at dksX5_answers_6 7 rfl rfl)
theorem dX5_answers_145 : decode cX5_answers 145 = .ok (.aload_n 0, 1) := dk_42 (dk_at dksX5_answers_6 8 rfl rfl)
theorem dX5_answers_146 : decode cX5_answers 146 = .ok (.getfield 19, 3) := dk_180 0 19 (dk_at dksX5_answers_6 9 rfl rfl)
theorem dX5_answers_149 : decode cX5_answers 149 = .ok (.iconst 3, 1) := dk_6 (dk_at dksX5_answers_6 12 rfl rfl)
theorem dX5_answers_150 : decode cX5_answers 150 = .ok (.iload_n 1, 1) := dk_27 (dk_at dksX5_answers_6 13 rfl rfl)
theorem dX5_answers_151 : decode cX5_answers 151 = .ok (.imul, 1) := dk_104 (dk_at dksX5_answers_6 14 rfl rfl)
theorem dX5_answers_152 : decode cX5_answers 152 = .ok (.iconst 2, 1) := dk_5 (dk_at dksX5_answers_6 15 rfl rfl)
theorem dX5_answers_153 : decode cX5_answers 153 = .ok (.iadd, 1) := dk_96 (dk_at dksX5_answers_6 16 rfl rfl)
theorem dX5_answers_154 : decode cX5_answers 154 = .ok (.iaload, 1) := dk_46 (dk_at dksX5_answers_6 17 rfl rfl)
theorem dX5_answers_155 : decode cX5_answers 155 = .ok (.iastore, 1) := dk_79 (dk_at dksX5_answers_6 18 rfl rfl)
theorem dX5_answers_156 : decode cX5_answers 156 = .ok (.aload_n 0, 1) := dk_42 (dk_at dksX5_answers_6 19 rfl rfl)
theorem dX5_answers_157 : decode cX5_answers 157 = .ok (.getfield 19, 3) := dk_180 0 19 (dk_at dksX5_answers_6 20 rfl rfl)
theorem dX5_answers_160 : decode cX5_answers 160 = .ok (.iconst 3, 1) := dk_6 (dk_at dksX5_answers_6 23 rfl rfl)
theorem dX5_answers_161 : decode cX5_answers 161 = .ok (.iload_n 1, 1) := dk_27 (dk_at dksX5_answers_7 0 rfl rfl)
theorem dX5_answers_162 : decode cX5_answers 162 = .ok (.imul, 1) := dk_104 (dk_at dksX5_answers_7 1 rfl rfl)
theorem dX5_answers_163 : decode cX5_answers 163 = .ok (.iconst 2, 1) := dk_5 (dk_at dksX5_answers_7 2 rfl rfl)
theorem dX5_answers_164 : decode cX5_answers 164 = .ok (.iadd, 1) := dk_96 (dk_at dksX5_answers_7 3 rfl rfl)
theorem dX5_answers_165 : decode cX5_answers 165 = .ok (.aload_n 0, 1) := dk_42 (dk_at dksX5_answers_7 4 rfl rfl)
theorem dX5_answers_166 : decode cX5_answers 166 = .ok (.getfield 247, 3) := dk_180 0 247 (dk_at dksX5_answers_7 5 rfl rfl)
theorem dX5_answers_169 : decode cX5_answers 169 = .ok (.iastore, 1) := dk_79 (dk_at dksX5_answers_7 8 rfl rfl)
theorem dX5_answers_170 : decode cX5_answers 170 = .ok (.iconst 0, 1) := dk_3 (dk_at dksX5_answers_7 9 rfl rfl)
theorem dX5_answers_171 : decode cX5_answers 171 = .ok (.ireturn, 1) := dk_172 (dk_at dksX5_answers_7 10 rfl rfl)
abbrev cX5_suspend : ByteArray := prog_14_method_29_code
def yX5_suspend : MethodName := ⟨RX5, "suspend", "(II)V"⟩
def dkwX5_suspend_0 : List UInt8 := [42, 180, 0, 7, 6, 27, 104, 28, 96, 5, 79, 42, 7, 6, 27, 104, 28, 96, 182, 0, 255, 177]
abbrev dktX5_suspend_0 : List UInt8 := dkwX5_suspend_0 ++ []
theorem dksX5_suspend_0 : cX5_suspend.data.toList.drop 0 = dktX5_suspend_0 := by decide +kernel
theorem dX5_suspend_0 : decode cX5_suspend 0 = .ok (.aload_n 0, 1) := dk_42 (dk_at dksX5_suspend_0 0 rfl rfl)
theorem dX5_suspend_1 : decode cX5_suspend 1 = .ok (.getfield 7, 3) := dk_180 0 7 (dk_at dksX5_suspend_0 1 rfl rfl)
theorem dX5_suspend_4 : decode cX5_suspend 4 = .ok (.iconst 3, 1) := dk_6 (dk_at dksX5_suspend_0 4 rfl rfl)
theorem dX5_suspend_5 : decode cX5_suspend 5 = .ok (.iload_n 1, 1) := dk_27 (dk_at dksX5_suspend_0 5 rfl rfl)
theorem dX5_suspend_6 : decode cX5_suspend 6 = .ok (.imul, 1) := dk_104 (dk_at dksX5_suspend_0 6 rfl rfl)
theorem dX5_suspend_7 : decode cX5_suspend 7 = .ok (.iload_n 2, 1) := dk_28 (dk_at dksX5_suspend_0 7 rfl rfl)
theorem dX5_suspend_8 : decode cX5_suspend 8 = .ok (.iadd, 1) := dk_96 (dk_at dksX5_suspend_0 8 rfl rfl)
theorem dX5_suspend_9 : decode cX5_suspend 9 = .ok (.iconst 2, 1) := dk_5 (dk_at dksX5_suspend_0 9 rfl rfl)
theorem dX5_suspend_10 : decode cX5_suspend 10 = .ok (.iastore, 1) := dk_79 (dk_at dksX5_suspend_0 10 rfl rfl)
theorem dX5_suspend_11 : decode cX5_suspend 11 = .ok (.aload_n 0, 1) := dk_42 (dk_at dksX5_suspend_0 11 rfl rfl)
theorem dX5_suspend_12 : decode cX5_suspend 12 = .ok (.iconst 4, 1) := dk_7 (dk_at dksX5_suspend_0 12 rfl rfl)
theorem dX5_suspend_13 : decode cX5_suspend 13 = .ok (.iconst 3, 1) := dk_6 (dk_at dksX5_suspend_0 13 rfl rfl)
theorem dX5_suspend_14 : decode cX5_suspend 14 = .ok (.iload_n 1, 1) := dk_27 (dk_at dksX5_suspend_0 14 rfl rfl)
theorem dX5_suspend_15 : decode cX5_suspend 15 = .ok (.imul, 1) := dk_104 (dk_at dksX5_suspend_0 15 rfl rfl)
theorem dX5_suspend_16 : decode cX5_suspend 16 = .ok (.iload_n 2, 1) := dk_28 (dk_at dksX5_suspend_0 16 rfl rfl)
theorem dX5_suspend_17 : decode cX5_suspend 17 = .ok (.iadd, 1) := dk_96 (dk_at dksX5_suspend_0 17 rfl rfl)
theorem dX5_suspend_18 : decode cX5_suspend 18 = .ok (.invokevirtual 255, 3) := dk_182 0 255 (dk_at dksX5_suspend_0 18 rfl rfl)
theorem dX5_suspend_21 : decode cX5_suspend 21 = .ok (.return_, 1) := dk_177 (dk_at dksX5_suspend_0 21 rfl rfl)
abbrev cX5_state : ByteArray := prog_14_method_51_code
def yX5_state : MethodName := ⟨RX5, "state", "(I)I"⟩
def dkwX5_state_0 : List UInt8 := [42, 42, 27, 182, 1, 85, 182, 0, 251, 153, 0, 12, 42, 180, 0, 77, 27, 46, 167, 0, 4, 3, 172]
abbrev dktX5_state_0 : List UInt8 := dkwX5_state_0 ++ []
theorem dksX5_state_0 : cX5_state.data.toList.drop 0 = dktX5_state_0 := by decide +kernel
theorem dX5_state_0 : decode cX5_state 0 = .ok (.aload_n 0, 1) := dk_42 (dk_at dksX5_state_0 0 rfl rfl)
theorem dX5_state_1 : decode cX5_state 1 = .ok (.aload_n 0, 1) := dk_42 (dk_at dksX5_state_0 1 rfl rfl)
theorem dX5_state_2 : decode cX5_state 2 = .ok (.iload_n 1, 1) := dk_27 (dk_at dksX5_state_0 2 rfl rfl)
theorem dX5_state_3 : decode cX5_state 3 = .ok (.invokevirtual 341, 3) := dk_182 1 85 (dk_at dksX5_state_0 3 rfl rfl)
theorem dX5_state_6 : decode cX5_state 6 = .ok (.invokevirtual 251, 3) := dk_182 0 251 (dk_at dksX5_state_0 6 rfl rfl)
theorem dX5_state_9 : decode cX5_state 9 = .ok (.ifCond .eq 12, 3) := dk_153 0 12 (dk_at dksX5_state_0 9 rfl rfl)
theorem dX5_state_12 : decode cX5_state 12 = .ok (.aload_n 0, 1) := dk_42 (dk_at dksX5_state_0 12 rfl rfl)
theorem dX5_state_13 : decode cX5_state 13 = .ok (.getfield 77, 3) := dk_180 0 77 (dk_at dksX5_state_0 13 rfl rfl)
theorem dX5_state_16 : decode cX5_state 16 = .ok (.iload_n 1, 1) := dk_27 (dk_at dksX5_state_0 16 rfl rfl)
theorem dX5_state_17 : decode cX5_state 17 = .ok (.iaload, 1) := dk_46 (dk_at dksX5_state_0 17 rfl rfl)
theorem dX5_state_18 : decode cX5_state 18 = .ok (.goto 4, 3) := dk_167 0 4 (dk_at dksX5_state_0 18 rfl rfl)
theorem dX5_state_21 : decode cX5_state 21 = .ok (.iconst 0, 1) := dk_3 (dk_at dksX5_state_0 21 rfl rfl)
theorem dX5_state_22 : decode cX5_state 22 = .ok (.ireturn, 1) := dk_172 (dk_at dksX5_state_0 22 rfl rfl)
abbrev cX5_asked : ByteArray := prog_14_method_52_code
def yX5_asked : MethodName := ⟨RX5, "asked", "(I)I"⟩
def dkwX5_asked_2 : List UInt8 := [172]
abbrev dktX5_asked_2 : List UInt8 := dkwX5_asked_2 ++ []
def dkwX5_asked_1 : List UInt8 := [180, 0, 41, 16, 12, 42, 180, 0, 71, 27, 46, 104, 42, 180, 0, 74, 27, 46, 96, 46, 167, 0, 4, 2]
abbrev dktX5_asked_1 : List UInt8 := dkwX5_asked_1 ++ dktX5_asked_2
def dkwX5_asked_0 : List UInt8 := [42, 42, 27, 182, 1, 85, 182, 0, 251, 154, 0, 5, 3, 172, 42, 180, 0, 77, 27, 46, 154, 0, 27, 42]
abbrev dktX5_asked_0 : List UInt8 := dkwX5_asked_0 ++ dktX5_asked_1
theorem dksX5_asked_0 : cX5_asked.data.toList.drop 0 = dktX5_asked_0 := by decide +kernel
theorem dksX5_asked_1 : cX5_asked.data.toList.drop 24 = dktX5_asked_1 := dk_seg dksX5_asked_0 24 rfl rfl
theorem dksX5_asked_2 : cX5_asked.data.toList.drop 48 = dktX5_asked_2 := dk_seg dksX5_asked_1 24 rfl rfl
theorem dX5_asked_0 : decode cX5_asked 0 = .ok (.aload_n 0, 1) := dk_42 (dk_at dksX5_asked_0 0 rfl rfl)
theorem dX5_asked_1 : decode cX5_asked 1 = .ok (.aload_n 0, 1) := dk_42 (dk_at dksX5_asked_0 1 rfl rfl)
theorem dX5_asked_2 : decode cX5_asked 2 = .ok (.iload_n 1, 1) := dk_27 (dk_at dksX5_asked_0 2 rfl rfl)
theorem dX5_asked_3 : decode cX5_asked 3 = .ok (.invokevirtual 341, 3) := dk_182 1 85 (dk_at dksX5_asked_0 3 rfl rfl)
theorem dX5_asked_6 : decode cX5_asked 6 = .ok (.invokevirtual 251, 3) := dk_182 0 251 (dk_at dksX5_asked_0 6 rfl rfl)
theorem dX5_asked_9 : decode cX5_asked 9 = .ok (.ifCond .ne 5, 3) := dk_154 0 5 (dk_at dksX5_asked_0 9 rfl rfl)
theorem dX5_asked_12 : decode cX5_asked 12 = .ok (.iconst 0, 1) := dk_3 (dk_at dksX5_asked_0 12 rfl rfl)
theorem dX5_asked_13 : decode cX5_asked 13 = .ok (.ireturn, 1) := dk_172 (dk_at dksX5_asked_0 13 rfl rfl)
theorem dX5_asked_14 : decode cX5_asked 14 = .ok (.aload_n 0, 1) := dk_42 (dk_at dksX5_asked_0 14 rfl rfl)
theorem dX5_asked_15 : decode cX5_asked 15 = .ok (.getfield 77, 3) := dk_180 0 77 (dk_at dksX5_asked_0 15 rfl rfl)
theorem dX5_asked_18 : decode cX5_asked 18 = .ok (.iload_n 1, 1) := dk_27 (dk_at dksX5_asked_0 18 rfl rfl)
theorem dX5_asked_19 : decode cX5_asked 19 = .ok (.iaload, 1) := dk_46 (dk_at dksX5_asked_0 19 rfl rfl)
theorem dX5_asked_20 : decode cX5_asked 20 = .ok (.ifCond .ne 27, 3) := dk_154 0 27 (dk_at dksX5_asked_0 20 rfl rfl)
theorem dX5_asked_23 : decode cX5_asked 23 = .ok (.aload_n 0, 1) := dk_42 (dk_at dksX5_asked_0 23 rfl rfl)
theorem dX5_asked_24 : decode cX5_asked 24 = .ok (.getfield 41, 3) := dk_180 0 41 (dk_at dksX5_asked_1 0 rfl rfl)
theorem dX5_asked_27 : decode cX5_asked 27 = .ok (.bipush 12, 2) := dk_16 12 (dk_at dksX5_asked_1 3 rfl rfl)
theorem dX5_asked_29 : decode cX5_asked 29 = .ok (.aload_n 0, 1) := dk_42 (dk_at dksX5_asked_1 5 rfl rfl)
theorem dX5_asked_30 : decode cX5_asked 30 = .ok (.getfield 71, 3) := dk_180 0 71 (dk_at dksX5_asked_1 6 rfl rfl)
theorem dX5_asked_33 : decode cX5_asked 33 = .ok (.iload_n 1, 1) := dk_27 (dk_at dksX5_asked_1 9 rfl rfl)
theorem dX5_asked_34 : decode cX5_asked 34 = .ok (.iaload, 1) := dk_46 (dk_at dksX5_asked_1 10 rfl rfl)
theorem dX5_asked_35 : decode cX5_asked 35 = .ok (.imul, 1) := dk_104 (dk_at dksX5_asked_1 11 rfl rfl)
theorem dX5_asked_36 : decode cX5_asked 36 = .ok (.aload_n 0, 1) := dk_42 (dk_at dksX5_asked_1 12 rfl rfl)
theorem dX5_asked_37 : decode cX5_asked 37 = .ok (.getfield 74, 3) := dk_180 0 74 (dk_at dksX5_asked_1 13 rfl rfl)
theorem dX5_asked_40 : decode cX5_asked 40 = .ok (.iload_n 1, 1) := dk_27 (dk_at dksX5_asked_1 16 rfl rfl)
theorem dX5_asked_41 : decode cX5_asked 41 = .ok (.iaload, 1) := dk_46 (dk_at dksX5_asked_1 17 rfl rfl)
theorem dX5_asked_42 : decode cX5_asked 42 = .ok (.iadd, 1) := dk_96 (dk_at dksX5_asked_1 18 rfl rfl)
theorem dX5_asked_43 : decode cX5_asked 43 = .ok (.iaload, 1) := dk_46 (dk_at dksX5_asked_1 19 rfl rfl)
theorem dX5_asked_44 : decode cX5_asked 44 = .ok (.goto 4, 3) := dk_167 0 4 (dk_at dksX5_asked_1 20 rfl rfl)
theorem dX5_asked_47 : decode cX5_asked 47 = .ok (.iconst (-1), 1) := dk_2 (dk_at dksX5_asked_1 23 rfl rfl)
theorem dX5_asked_48 : decode cX5_asked 48 = .ok (.ireturn, 1) := dk_172 (dk_at dksX5_asked_2 0 rfl rfl)
abbrev cX5_sessionOf : ByteArray := prog_14_method_53_code
def yX5_sessionOf : MethodName := ⟨RX5, "sessionOf", "(I)I"⟩
def dkwX5_sessionOf_0 : List UInt8 := [42, 42, 27, 182, 1, 85, 182, 0, 251, 153, 0, 12, 42, 180, 0, 86, 27, 46, 167, 0, 4, 3, 172]
abbrev dktX5_sessionOf_0 : List UInt8 := dkwX5_sessionOf_0 ++ []
theorem dksX5_sessionOf_0 : cX5_sessionOf.data.toList.drop 0 = dktX5_sessionOf_0 := by decide +kernel
theorem dX5_sessionOf_0 : decode cX5_sessionOf 0 = .ok (.aload_n 0, 1) := dk_42 (dk_at dksX5_sessionOf_0 0 rfl rfl)
theorem dX5_sessionOf_1 : decode cX5_sessionOf 1 = .ok (.aload_n 0, 1) := dk_42 (dk_at dksX5_sessionOf_0 1 rfl rfl)
theorem dX5_sessionOf_2 : decode cX5_sessionOf 2 = .ok (.iload_n 1, 1) := dk_27 (dk_at dksX5_sessionOf_0 2 rfl rfl)
theorem dX5_sessionOf_3 : decode cX5_sessionOf 3 = .ok (.invokevirtual 341, 3) := dk_182 1 85 (dk_at dksX5_sessionOf_0 3 rfl rfl)
theorem dX5_sessionOf_6 : decode cX5_sessionOf 6 = .ok (.invokevirtual 251, 3) := dk_182 0 251 (dk_at dksX5_sessionOf_0 6 rfl rfl)
theorem dX5_sessionOf_9 : decode cX5_sessionOf 9 = .ok (.ifCond .eq 12, 3) := dk_153 0 12 (dk_at dksX5_sessionOf_0 9 rfl rfl)
theorem dX5_sessionOf_12 : decode cX5_sessionOf 12 = .ok (.aload_n 0, 1) := dk_42 (dk_at dksX5_sessionOf_0 12 rfl rfl)
theorem dX5_sessionOf_13 : decode cX5_sessionOf 13 = .ok (.getfield 86, 3) := dk_180 0 86 (dk_at dksX5_sessionOf_0 13 rfl rfl)
theorem dX5_sessionOf_16 : decode cX5_sessionOf 16 = .ok (.iload_n 1, 1) := dk_27 (dk_at dksX5_sessionOf_0 16 rfl rfl)
theorem dX5_sessionOf_17 : decode cX5_sessionOf 17 = .ok (.iaload, 1) := dk_46 (dk_at dksX5_sessionOf_0 17 rfl rfl)
theorem dX5_sessionOf_18 : decode cX5_sessionOf 18 = .ok (.goto 4, 3) := dk_167 0 4 (dk_at dksX5_sessionOf_0 18 rfl rfl)
theorem dX5_sessionOf_21 : decode cX5_sessionOf 21 = .ok (.iconst 0, 1) := dk_3 (dk_at dksX5_sessionOf_0 21 rfl rfl)
theorem dX5_sessionOf_22 : decode cX5_sessionOf 22 = .ok (.ireturn, 1) := dk_172 (dk_at dksX5_sessionOf_0 22 rfl rfl)
abbrev cX5_risk : ByteArray := prog_14_method_54_code
def yX5_risk : MethodName := ⟨RX5, "risk", "(I)I"⟩
def dkwX5_risk_0 : List UInt8 := [42, 42, 27, 182, 1, 85, 182, 0, 251, 153, 0, 12, 42, 27, 3, 182, 1, 66, 167, 0, 4, 3, 172]
abbrev dktX5_risk_0 : List UInt8 := dkwX5_risk_0 ++ []
theorem dksX5_risk_0 : cX5_risk.data.toList.drop 0 = dktX5_risk_0 := by decide +kernel
theorem dX5_risk_0 : decode cX5_risk 0 = .ok (.aload_n 0, 1) := dk_42 (dk_at dksX5_risk_0 0 rfl rfl)
theorem dX5_risk_1 : decode cX5_risk 1 = .ok (.aload_n 0, 1) := dk_42 (dk_at dksX5_risk_0 1 rfl rfl)
theorem dX5_risk_2 : decode cX5_risk 2 = .ok (.iload_n 1, 1) := dk_27 (dk_at dksX5_risk_0 2 rfl rfl)
theorem dX5_risk_3 : decode cX5_risk 3 = .ok (.invokevirtual 341, 3) := dk_182 1 85 (dk_at dksX5_risk_0 3 rfl rfl)
theorem dX5_risk_6 : decode cX5_risk 6 = .ok (.invokevirtual 251, 3) := dk_182 0 251 (dk_at dksX5_risk_0 6 rfl rfl)
theorem dX5_risk_9 : decode cX5_risk 9 = .ok (.ifCond .eq 12, 3) := dk_153 0 12 (dk_at dksX5_risk_0 9 rfl rfl)
theorem dX5_risk_12 : decode cX5_risk 12 = .ok (.aload_n 0, 1) := dk_42 (dk_at dksX5_risk_0 12 rfl rfl)
theorem dX5_risk_13 : decode cX5_risk 13 = .ok (.iload_n 1, 1) := dk_27 (dk_at dksX5_risk_0 13 rfl rfl)
theorem dX5_risk_14 : decode cX5_risk 14 = .ok (.iconst 0, 1) := dk_3 (dk_at dksX5_risk_0 14 rfl rfl)
theorem dX5_risk_15 : decode cX5_risk 15 = .ok (.invokevirtual 322, 3) := dk_182 1 66 (dk_at dksX5_risk_0 15 rfl rfl)
theorem dX5_risk_18 : decode cX5_risk 18 = .ok (.goto 4, 3) := dk_167 0 4 (dk_at dksX5_risk_0 18 rfl rfl)
theorem dX5_risk_21 : decode cX5_risk 21 = .ok (.iconst 0, 1) := dk_3 (dk_at dksX5_risk_0 21 rfl rfl)
theorem dX5_risk_22 : decode cX5_risk 22 = .ok (.ireturn, 1) := dk_172 (dk_at dksX5_risk_0 22 rfl rfl)
abbrev cX5_trialRisk : ByteArray := prog_14_method_55_code
def yX5_trialRisk : MethodName := ⟨RX5, "trialRisk", "(I)I"⟩
def dkwX5_trialRisk_0 : List UInt8 := [42, 42, 27, 182, 1, 85, 182, 0, 251, 153, 0, 12, 42, 27, 4, 182, 1, 66, 167, 0, 4, 3, 172]
abbrev dktX5_trialRisk_0 : List UInt8 := dkwX5_trialRisk_0 ++ []
theorem dksX5_trialRisk_0 : cX5_trialRisk.data.toList.drop 0 = dktX5_trialRisk_0 := by decide +kernel
theorem dX5_trialRisk_0 : decode cX5_trialRisk 0 = .ok (.aload_n 0, 1) := dk_42 (dk_at dksX5_trialRisk_0 0 rfl rfl)
theorem dX5_trialRisk_1 : decode cX5_trialRisk 1 = .ok (.aload_n 0, 1) := dk_42 (dk_at dksX5_trialRisk_0 1 rfl rfl)
theorem dX5_trialRisk_2 : decode cX5_trialRisk 2 = .ok (.iload_n 1, 1) := dk_27 (dk_at dksX5_trialRisk_0 2 rfl rfl)
theorem dX5_trialRisk_3 : decode cX5_trialRisk 3 = .ok (.invokevirtual 341, 3) := dk_182 1 85 (dk_at dksX5_trialRisk_0 3 rfl rfl)
theorem dX5_trialRisk_6 : decode cX5_trialRisk 6 = .ok (.invokevirtual 251, 3) := dk_182 0 251 (dk_at dksX5_trialRisk_0 6 rfl rfl)
theorem dX5_trialRisk_9 : decode cX5_trialRisk 9 = .ok (.ifCond .eq 12, 3) := dk_153 0 12 (dk_at dksX5_trialRisk_0 9 rfl rfl)
theorem dX5_trialRisk_12 : decode cX5_trialRisk 12 = .ok (.aload_n 0, 1) := dk_42 (dk_at dksX5_trialRisk_0 12 rfl rfl)
theorem dX5_trialRisk_13 : decode cX5_trialRisk 13 = .ok (.iload_n 1, 1) := dk_27 (dk_at dksX5_trialRisk_0 13 rfl rfl)
theorem dX5_trialRisk_14 : decode cX5_trialRisk 14 = .ok (.iconst 1, 1) := dk_4 (dk_at dksX5_trialRisk_0 14 rfl rfl)
theorem dX5_trialRisk_15 : decode cX5_trialRisk 15 = .ok (.invokevirtual 322, 3) := dk_182 1 66 (dk_at dksX5_trialRisk_0 15 rfl rfl)
theorem dX5_trialRisk_18 : decode cX5_trialRisk 18 = .ok (.goto 4, 3) := dk_167 0 4 (dk_at dksX5_trialRisk_0 18 rfl rfl)
theorem dX5_trialRisk_21 : decode cX5_trialRisk 21 = .ok (.iconst 0, 1) := dk_3 (dk_at dksX5_trialRisk_0 21 rfl rfl)
theorem dX5_trialRisk_22 : decode cX5_trialRisk 22 = .ok (.ireturn, 1) := dk_172 (dk_at dksX5_trialRisk_0 22 rfl rfl)
abbrev cX5_sessions : ByteArray := prog_14_method_56_code
def yX5_sessions : MethodName := ⟨RX5, "sessions", "()I"⟩
def dkwX5_sessions_0 : List UInt8 := [42, 3, 181, 0, 225, 42, 180, 0, 235, 172]
abbrev dktX5_sessions_0 : List UInt8 := dkwX5_sessions_0 ++ []
theorem dksX5_sessions_0 : cX5_sessions.data.toList.drop 0 = dktX5_sessions_0 := by decide +kernel
theorem dX5_sessions_0 : decode cX5_sessions 0 = .ok (.aload_n 0, 1) := dk_42 (dk_at dksX5_sessions_0 0 rfl rfl)
theorem dX5_sessions_1 : decode cX5_sessions 1 = .ok (.iconst 0, 1) := dk_3 (dk_at dksX5_sessions_0 1 rfl rfl)
theorem dX5_sessions_2 : decode cX5_sessions 2 = .ok (.putfield 225, 3) := dk_181 0 225 (dk_at dksX5_sessions_0 2 rfl rfl)
theorem dX5_sessions_5 : decode cX5_sessions 5 = .ok (.aload_n 0, 1) := dk_42 (dk_at dksX5_sessions_0 5 rfl rfl)
theorem dX5_sessions_6 : decode cX5_sessions 6 = .ok (.getfield 235, 3) := dk_180 0 235 (dk_at dksX5_sessions_0 6 rfl rfl)
theorem dX5_sessions_9 : decode cX5_sessions 9 = .ok (.ireturn, 1) := dk_172 (dk_at dksX5_sessions_0 9 rfl rfl)
abbrev cX5_isLive : ByteArray := prog_14_method_57_code
def yX5_isLive : MethodName := ⟨RX5, "isLive", "(I)Z"⟩
def dkwX5_isLive_1 : List UInt8 := [167, 0, 4, 3, 172]
abbrev dktX5_isLive_1 : List UInt8 := dkwX5_isLive_1 ++ []
def dkwX5_isLive_0 : List UInt8 := [42, 42, 27, 182, 1, 96, 182, 0, 251, 153, 0, 16, 42, 180, 0, 104, 27, 51, 153, 0, 7, 4]
abbrev dktX5_isLive_0 : List UInt8 := dkwX5_isLive_0 ++ dktX5_isLive_1
theorem dksX5_isLive_0 : cX5_isLive.data.toList.drop 0 = dktX5_isLive_0 := by decide +kernel
theorem dksX5_isLive_1 : cX5_isLive.data.toList.drop 22 = dktX5_isLive_1 := dk_seg dksX5_isLive_0 22 rfl rfl
theorem dX5_isLive_0 : decode cX5_isLive 0 = .ok (.aload_n 0, 1) := dk_42 (dk_at dksX5_isLive_0 0 rfl rfl)
theorem dX5_isLive_1 : decode cX5_isLive 1 = .ok (.aload_n 0, 1) := dk_42 (dk_at dksX5_isLive_0 1 rfl rfl)
theorem dX5_isLive_2 : decode cX5_isLive 2 = .ok (.iload_n 1, 1) := dk_27 (dk_at dksX5_isLive_0 2 rfl rfl)
theorem dX5_isLive_3 : decode cX5_isLive 3 = .ok (.invokevirtual 352, 3) := dk_182 1 96 (dk_at dksX5_isLive_0 3 rfl rfl)
theorem dX5_isLive_6 : decode cX5_isLive 6 = .ok (.invokevirtual 251, 3) := dk_182 0 251 (dk_at dksX5_isLive_0 6 rfl rfl)
theorem dX5_isLive_9 : decode cX5_isLive 9 = .ok (.ifCond .eq 16, 3) := dk_153 0 16 (dk_at dksX5_isLive_0 9 rfl rfl)
theorem dX5_isLive_12 : decode cX5_isLive 12 = .ok (.aload_n 0, 1) := dk_42 (dk_at dksX5_isLive_0 12 rfl rfl)
theorem dX5_isLive_13 : decode cX5_isLive 13 = .ok (.getfield 104, 3) := dk_180 0 104 (dk_at dksX5_isLive_0 13 rfl rfl)
theorem dX5_isLive_16 : decode cX5_isLive 16 = .ok (.iload_n 1, 1) := dk_27 (dk_at dksX5_isLive_0 16 rfl rfl)
theorem dX5_isLive_17 : decode cX5_isLive 17 = .ok (.baload, 1) := dk_51 (dk_at dksX5_isLive_0 17 rfl rfl)
theorem dX5_isLive_18 : decode cX5_isLive 18 = .ok (.ifCond .eq 7, 3) := dk_153 0 7 (dk_at dksX5_isLive_0 18 rfl rfl)
theorem dX5_isLive_21 : decode cX5_isLive 21 = .ok (.iconst 1, 1) := dk_4 (dk_at dksX5_isLive_0 21 rfl rfl)
theorem dX5_isLive_22 : decode cX5_isLive 22 = .ok (.goto 4, 3) := dk_167 0 4 (dk_at dksX5_isLive_1 0 rfl rfl)
theorem dX5_isLive_25 : decode cX5_isLive 25 = .ok (.iconst 0, 1) := dk_3 (dk_at dksX5_isLive_1 3 rfl rfl)
theorem dX5_isLive_26 : decode cX5_isLive 26 = .ok (.ireturn, 1) := dk_172 (dk_at dksX5_isLive_1 4 rfl rfl)
abbrev cX5_isSession : ByteArray := prog_14_method_11_code
def yX5_isSession : MethodName := ⟨RX5, "isSession", "(I)Z"⟩
def dkwX5_isSession_0 : List UInt8 := [27, 3, 42, 180, 0, 235, 4, 100, 184, 0, 228, 172]
abbrev dktX5_isSession_0 : List UInt8 := dkwX5_isSession_0 ++ []
theorem dksX5_isSession_0 : cX5_isSession.data.toList.drop 0 = dktX5_isSession_0 := by decide +kernel
theorem dX5_isSession_0 : decode cX5_isSession 0 = .ok (.iload_n 1, 1) := dk_27 (dk_at dksX5_isSession_0 0 rfl rfl)
theorem dX5_isSession_1 : decode cX5_isSession 1 = .ok (.iconst 0, 1) := dk_3 (dk_at dksX5_isSession_0 1 rfl rfl)
theorem dX5_isSession_2 : decode cX5_isSession 2 = .ok (.aload_n 0, 1) := dk_42 (dk_at dksX5_isSession_0 2 rfl rfl)
theorem dX5_isSession_3 : decode cX5_isSession 3 = .ok (.getfield 235, 3) := dk_180 0 235 (dk_at dksX5_isSession_0 3 rfl rfl)
theorem dX5_isSession_6 : decode cX5_isSession 6 = .ok (.iconst 1, 1) := dk_4 (dk_at dksX5_isSession_0 6 rfl rfl)
theorem dX5_isSession_7 : decode cX5_isSession 7 = .ok (.isub, 1) := dk_100 (dk_at dksX5_isSession_0 7 rfl rfl)
theorem dX5_isSession_8 : decode cX5_isSession 8 = .ok (.invokestatic 228, 3) := dk_184 0 228 (dk_at dksX5_isSession_0 8 rfl rfl)
theorem dX5_isSession_11 : decode cX5_isSession 11 = .ok (.ireturn, 1) := dk_172 (dk_at dksX5_isSession_0 11 rfl rfl)
abbrev cX5_isLiveByAudit : ByteArray := prog_14_method_58_code
def yX5_isLiveByAudit : MethodName := ⟨RX5, "isLiveByAudit", "(I)Z"⟩
def dkwX5_isLiveByAudit_3 : List UInt8 := [28, 172]
abbrev dktX5_isLiveByAudit_3 : List UInt8 := dkwX5_isLiveByAudit_3 ++ []
def dkwX5_isLiveByAudit_2 : List UInt8 := [180, 0, 213, 29, 46, 154, 0, 7, 4, 167, 0, 8, 3, 167, 0, 4, 28, 61, 132, 3, 1, 167, 255, 206]
abbrev dktX5_isLiveByAudit_2 : List UInt8 := dkwX5_isLiveByAudit_2 ++ dktX5_isLiveByAudit_3
def dkwX5_isLiveByAudit_1 : List UInt8 := [162, 0, 48, 42, 180, 0, 216, 29, 46, 27, 160, 0, 30, 42, 180, 0, 213, 29, 46, 5, 162, 0, 20, 42]
abbrev dktX5_isLiveByAudit_1 : List UInt8 := dkwX5_isLiveByAudit_1 ++ dktX5_isLiveByAudit_2
def dkwX5_isLiveByAudit_0 : List UInt8 := [42, 42, 27, 182, 1, 96, 182, 0, 251, 154, 0, 5, 3, 172, 3, 61, 3, 62, 29, 42, 180, 0, 244]
abbrev dktX5_isLiveByAudit_0 : List UInt8 := dkwX5_isLiveByAudit_0 ++ dktX5_isLiveByAudit_1
theorem dksX5_isLiveByAudit_0 : cX5_isLiveByAudit.data.toList.drop 0 = dktX5_isLiveByAudit_0 := by decide +kernel
theorem dksX5_isLiveByAudit_1 : cX5_isLiveByAudit.data.toList.drop 23 = dktX5_isLiveByAudit_1 := dk_seg dksX5_isLiveByAudit_0 23 rfl rfl
theorem dksX5_isLiveByAudit_2 : cX5_isLiveByAudit.data.toList.drop 47 = dktX5_isLiveByAudit_2 := dk_seg dksX5_isLiveByAudit_1 24 rfl rfl
theorem dksX5_isLiveByAudit_3 : cX5_isLiveByAudit.data.toList.drop 71 = dktX5_isLiveByAudit_3 := dk_seg dksX5_isLiveByAudit_2 24 rfl rfl
theorem dX5_isLiveByAudit_0 : decode cX5_isLiveByAudit 0 = .ok (.aload_n 0, 1) := dk_42 (dk_at dksX5_isLiveByAudit_0 0 rfl rfl)
theorem dX5_isLiveByAudit_1 : decode cX5_isLiveByAudit 1 = .ok (.aload_n 0, 1) := dk_42 (dk_at dksX5_isLiveByAudit_0 1 rfl rfl)
theorem dX5_isLiveByAudit_2 : decode cX5_isLiveByAudit 2 = .ok (.iload_n 1, 1) := dk_27 (dk_at dksX5_isLiveByAudit_0 2 rfl rfl)
theorem dX5_isLiveByAudit_3 : decode cX5_isLiveByAudit 3 = .ok (.invokevirtual 352, 3) := dk_182 1 96 (dk_at dksX5_isLiveByAudit_0 3 rfl rfl)
theorem dX5_isLiveByAudit_6 : decode cX5_isLiveByAudit 6 = .ok (.invokevirtual 251, 3) := dk_182 0 251 (dk_at dksX5_isLiveByAudit_0 6 rfl rfl)
theorem dX5_isLiveByAudit_9 : decode cX5_isLiveByAudit 9 = .ok (.ifCond .ne 5, 3) := dk_154 0 5 (dk_at dksX5_isLiveByAudit_0 9 rfl rfl)
theorem dX5_isLiveByAudit_12 : decode cX5_isLiveByAudit 12 = .ok (.iconst 0, 1) := dk_3 (dk_at dksX5_isLiveByAudit_0 12 rfl rfl)
theorem dX5_isLiveByAudit_13 : decode cX5_isLiveByAudit 13 = .ok (.ireturn, 1) := dk_172 (dk_at dksX5_isLiveByAudit_0 13 rfl rfl)
theorem dX5_isLiveByAudit_14 : decode cX5_isLiveByAudit 14 = .ok (.iconst 0, 1) := dk_3 (dk_at dksX5_isLiveByAudit_0 14 rfl rfl)
theorem dX5_isLiveByAudit_15 : decode cX5_isLiveByAudit 15 = .ok (.istore_n 2, 1) := dk_61 (dk_at dksX5_isLiveByAudit_0 15 rfl rfl)
theorem dX5_isLiveByAudit_16 : decode cX5_isLiveByAudit 16 = .ok (.iconst 0, 1) := dk_3 (dk_at dksX5_isLiveByAudit_0 16 rfl rfl)
theorem dX5_isLiveByAudit_17 : decode cX5_isLiveByAudit 17 = .ok (.istore_n 3, 1) := dk_62 (dk_at dksX5_isLiveByAudit_0 17 rfl rfl)
theorem dX5_isLiveByAudit_18 : decode cX5_isLiveByAudit 18 = .ok (.iload_n 3, 1) := dk_29 (dk_at dksX5_isLiveByAudit_0 18 rfl rfl)
theorem dX5_isLiveByAudit_19 : decode cX5_isLiveByAudit 19 = .ok (.aload_n 0, 1) := dk_42 (dk_at dksX5_isLiveByAudit_0 19 rfl rfl)
theorem dX5_isLiveByAudit_20 : decode cX5_isLiveByAudit 20 = .ok (.getfield 244, 3) := dk_180 0 244 (dk_at dksX5_isLiveByAudit_0 20 rfl rfl)
theorem dX5_isLiveByAudit_23 : decode cX5_isLiveByAudit 23 = .ok (.if_icmp .ge 48, 3) := dk_162 0 48 (dk_at dksX5_isLiveByAudit_1 0 rfl rfl)
theorem dX5_isLiveByAudit_26 : decode cX5_isLiveByAudit 26 = .ok (.aload_n 0, 1) := dk_42 (dk_at dksX5_isLiveByAudit_1 3 rfl rfl)
theorem dX5_isLiveByAudit_27 : decode cX5_isLiveByAudit 27 = .ok (.getfield 216, 3) := dk_180 0 216 (dk_at dksX5_isLiveByAudit_1 4 rfl rfl)
theorem dX5_isLiveByAudit_30 : decode cX5_isLiveByAudit 30 = .ok (.iload_n 3, 1) := dk_29 (dk_at dksX5_isLiveByAudit_1 7 rfl rfl)
theorem dX5_isLiveByAudit_31 : decode cX5_isLiveByAudit 31 = .ok (.iaload, 1) := dk_46 (dk_at dksX5_isLiveByAudit_1 8 rfl rfl)
theorem dX5_isLiveByAudit_32 : decode cX5_isLiveByAudit 32 = .ok (.iload_n 1, 1) := dk_27 (dk_at dksX5_isLiveByAudit_1 9 rfl rfl)
theorem dX5_isLiveByAudit_33 : decode cX5_isLiveByAudit 33 = .ok (.if_icmp .ne 30, 3) := dk_160 0 30 (dk_at dksX5_isLiveByAudit_1 10 rfl rfl)
theorem dX5_isLiveByAudit_36 : decode cX5_isLiveByAudit 36 = .ok (.aload_n 0, 1) := dk_42 (dk_at dksX5_isLiveByAudit_1 13 rfl rfl)
theorem dX5_isLiveByAudit_37 : decode cX5_isLiveByAudit 37 = .ok (.getfield 213, 3) := dk_180 0 213 (dk_at dksX5_isLiveByAudit_1 14 rfl rfl)
theorem dX5_isLiveByAudit_40 : decode cX5_isLiveByAudit 40 = .ok (.iload_n 3, 1) := dk_29 (dk_at dksX5_isLiveByAudit_1 17 rfl rfl)
theorem dX5_isLiveByAudit_41 : decode cX5_isLiveByAudit 41 = .ok (.iaload, 1) := dk_46 (dk_at dksX5_isLiveByAudit_1 18 rfl rfl)
theorem dX5_isLiveByAudit_42 : decode cX5_isLiveByAudit 42 = .ok (.iconst 2, 1) := dk_5 (dk_at dksX5_isLiveByAudit_1 19 rfl rfl)
theorem dX5_isLiveByAudit_43 : decode cX5_isLiveByAudit 43 = .ok (.if_icmp .ge 20, 3) := dk_162 0 20 (dk_at dksX5_isLiveByAudit_1 20 rfl rfl)
theorem dX5_isLiveByAudit_46 : decode cX5_isLiveByAudit 46 = .ok (.aload_n 0, 1) := dk_42 (dk_at dksX5_isLiveByAudit_1 23 rfl rfl)
theorem dX5_isLiveByAudit_47 : decode cX5_isLiveByAudit 47 = .ok (.getfield 213, 3) := dk_180 0 213 (dk_at dksX5_isLiveByAudit_2 0 rfl rfl)
theorem dX5_isLiveByAudit_50 : decode cX5_isLiveByAudit 50 = .ok (.iload_n 3, 1) := dk_29 (dk_at dksX5_isLiveByAudit_2 3 rfl rfl)
theorem dX5_isLiveByAudit_51 : decode cX5_isLiveByAudit 51 = .ok (.iaload, 1) := dk_46 (dk_at dksX5_isLiveByAudit_2 4 rfl rfl)
theorem dX5_isLiveByAudit_52 : decode cX5_isLiveByAudit 52 = .ok (.ifCond .ne 7, 3) := dk_154 0 7 (dk_at dksX5_isLiveByAudit_2 5 rfl rfl)
theorem dX5_isLiveByAudit_55 : decode cX5_isLiveByAudit 55 = .ok (.iconst 1, 1) := dk_4 (dk_at dksX5_isLiveByAudit_2 8 rfl rfl)
theorem dX5_isLiveByAudit_56 : decode cX5_isLiveByAudit 56 = .ok (.goto 8, 3) := dk_167 0 8 (dk_at dksX5_isLiveByAudit_2 9 rfl rfl)
theorem dX5_isLiveByAudit_59 : decode cX5_isLiveByAudit 59 = .ok (.iconst 0, 1) := dk_3 (dk_at dksX5_isLiveByAudit_2 12 rfl rfl)
theorem dX5_isLiveByAudit_60 : decode cX5_isLiveByAudit 60 = .ok (.goto 4, 3) := dk_167 0 4 (dk_at dksX5_isLiveByAudit_2 13 rfl rfl)
theorem dX5_isLiveByAudit_63 : decode cX5_isLiveByAudit 63 = .ok (.iload_n 2, 1) := dk_28 (dk_at dksX5_isLiveByAudit_2 16 rfl rfl)
theorem dX5_isLiveByAudit_64 : decode cX5_isLiveByAudit 64 = .ok (.istore_n 2, 1) := dk_61 (dk_at dksX5_isLiveByAudit_2 17 rfl rfl)
theorem dX5_isLiveByAudit_65 : decode cX5_isLiveByAudit 65 = .ok (.iinc 3 1, 3) := dk_132 3 1 (dk_at dksX5_isLiveByAudit_2 18 rfl rfl)
theorem dX5_isLiveByAudit_68 : decode cX5_isLiveByAudit 68 = .ok (.goto (-50), 3) := dk_167 255 206 (dk_at dksX5_isLiveByAudit_2 21 rfl rfl)
theorem dX5_isLiveByAudit_71 : decode cX5_isLiveByAudit 71 = .ok (.iload_n 2, 1) := dk_28 (dk_at dksX5_isLiveByAudit_3 0 rfl rfl)
theorem dX5_isLiveByAudit_72 : decode cX5_isLiveByAudit 72 = .ok (.ireturn, 1) := dk_172 (dk_at dksX5_isLiveByAudit_3 1 rfl rfl)
abbrev cX5_level : ByteArray := prog_14_method_60_code
def yX5_level : MethodName := ⟨RX5, "level", "(I)I"⟩
def dkwX5_level_0 : List UInt8 := [42, 42, 27, 182, 1, 96, 182, 0, 251, 153, 0, 11, 42, 27, 182, 1, 99, 167, 0, 4, 3, 172]
abbrev dktX5_level_0 : List UInt8 := dkwX5_level_0 ++ []
theorem dksX5_level_0 : cX5_level.data.toList.drop 0 = dktX5_level_0 := by decide +kernel
theorem dX5_level_0 : decode cX5_level 0 = .ok (.aload_n 0, 1) := dk_42 (dk_at dksX5_level_0 0 rfl rfl)
theorem dX5_level_1 : decode cX5_level 1 = .ok (.aload_n 0, 1) := dk_42 (dk_at dksX5_level_0 1 rfl rfl)
theorem dX5_level_2 : decode cX5_level 2 = .ok (.iload_n 1, 1) := dk_27 (dk_at dksX5_level_0 2 rfl rfl)
theorem dX5_level_3 : decode cX5_level 3 = .ok (.invokevirtual 352, 3) := dk_182 1 96 (dk_at dksX5_level_0 3 rfl rfl)
theorem dX5_level_6 : decode cX5_level 6 = .ok (.invokevirtual 251, 3) := dk_182 0 251 (dk_at dksX5_level_0 6 rfl rfl)
theorem dX5_level_9 : decode cX5_level 9 = .ok (.ifCond .eq 11, 3) := dk_153 0 11 (dk_at dksX5_level_0 9 rfl rfl)
theorem dX5_level_12 : decode cX5_level 12 = .ok (.aload_n 0, 1) := dk_42 (dk_at dksX5_level_0 12 rfl rfl)
theorem dX5_level_13 : decode cX5_level 13 = .ok (.iload_n 1, 1) := dk_27 (dk_at dksX5_level_0 13 rfl rfl)
theorem dX5_level_14 : decode cX5_level 14 = .ok (.invokevirtual 355, 3) := dk_182 1 99 (dk_at dksX5_level_0 14 rfl rfl)
theorem dX5_level_17 : decode cX5_level 17 = .ok (.goto 4, 3) := dk_167 0 4 (dk_at dksX5_level_0 17 rfl rfl)
theorem dX5_level_20 : decode cX5_level 20 = .ok (.iconst 0, 1) := dk_3 (dk_at dksX5_level_0 20 rfl rfl)
theorem dX5_level_21 : decode cX5_level 21 = .ok (.ireturn, 1) := dk_172 (dk_at dksX5_level_0 21 rfl rfl)
abbrev cX5_levelNow : ByteArray := prog_14_method_59_code
def yX5_levelNow : MethodName := ⟨RX5, "levelNow", "(I)I"⟩
def dkwX5_levelNow_2 : List UInt8 := [61, 132, 3, 1, 167, 255, 208, 28, 184, 1, 53, 172]
abbrev dktX5_levelNow_2 : List UInt8 := dkwX5_levelNow_2 ++ []
def dkwX5_levelNow_1 : List UInt8 := [2, 159, 0, 21, 42, 180, 0, 247, 21, 4, 100, 16, 120, 163, 0, 9, 4, 29, 120, 167, 0, 4, 3, 128]
abbrev dktX5_levelNow_1 : List UInt8 := dkwX5_levelNow_1 ++ dktX5_levelNow_2
def dkwX5_levelNow_0 : List UInt8 := [3, 61, 3, 62, 29, 6, 162, 0, 49, 42, 180, 0, 107, 6, 27, 104, 29, 96, 46, 54, 4, 28, 21, 4]
abbrev dktX5_levelNow_0 : List UInt8 := dkwX5_levelNow_0 ++ dktX5_levelNow_1
theorem dksX5_levelNow_0 : cX5_levelNow.data.toList.drop 0 = dktX5_levelNow_0 := by decide +kernel
theorem dksX5_levelNow_1 : cX5_levelNow.data.toList.drop 24 = dktX5_levelNow_1 := dk_seg dksX5_levelNow_0 24 rfl rfl
theorem dksX5_levelNow_2 : cX5_levelNow.data.toList.drop 48 = dktX5_levelNow_2 := dk_seg dksX5_levelNow_1 24 rfl rfl
theorem dX5_levelNow_0 : decode cX5_levelNow 0 = .ok (.iconst 0, 1) := dk_3 (dk_at dksX5_levelNow_0 0 rfl rfl)
theorem dX5_levelNow_1 : decode cX5_levelNow 1 = .ok (.istore_n 2, 1) := dk_61 (dk_at dksX5_levelNow_0 1 rfl rfl)
theorem dX5_levelNow_2 : decode cX5_levelNow 2 = .ok (.iconst 0, 1) := dk_3 (dk_at dksX5_levelNow_0 2 rfl rfl)
theorem dX5_levelNow_3 : decode cX5_levelNow 3 = .ok (.istore_n 3, 1) := dk_62 (dk_at dksX5_levelNow_0 3 rfl rfl)
theorem dX5_levelNow_4 : decode cX5_levelNow 4 = .ok (.iload_n 3, 1) := dk_29 (dk_at dksX5_levelNow_0 4 rfl rfl)
theorem dX5_levelNow_5 : decode cX5_levelNow 5 = .ok (.iconst 3, 1) := dk_6 (dk_at dksX5_levelNow_0 5 rfl rfl)
theorem dX5_levelNow_6 : decode cX5_levelNow 6 = .ok (.if_icmp .ge 49, 3) := dk_162 0 49 (dk_at dksX5_levelNow_0 6 rfl rfl)
theorem dX5_levelNow_9 : decode cX5_levelNow 9 = .ok (.aload_n 0, 1) := dk_42 (dk_at dksX5_levelNow_0 9 rfl rfl)
theorem dX5_levelNow_10 : decode cX5_levelNow 10 = .ok (.getfield 107, 3) := dk_180 0 107 (dk_at dksX5_levelNow_0 10 rfl rfl)
theorem dX5_levelNow_13 : decode cX5_levelNow 13 = .ok (.iconst 3, 1) := dk_6 (dk_at dksX5_levelNow_0 13 rfl rfl)
theorem dX5_levelNow_14 : decode cX5_levelNow 14 = .ok (.iload_n 1, 1) := dk_27 (dk_at dksX5_levelNow_0 14 rfl rfl)
theorem dX5_levelNow_15 : decode cX5_levelNow 15 = .ok (.imul, 1) := dk_104 (dk_at dksX5_levelNow_0 15 rfl rfl)
theorem dX5_levelNow_16 : decode cX5_levelNow 16 = .ok (.iload_n 3, 1) := dk_29 (dk_at dksX5_levelNow_0 16 rfl rfl)
theorem dX5_levelNow_17 : decode cX5_levelNow 17 = .ok (.iadd, 1) := dk_96 (dk_at dksX5_levelNow_0 17 rfl rfl)
theorem dX5_levelNow_18 : decode cX5_levelNow 18 = .ok (.iaload, 1) := dk_46 (dk_at dksX5_levelNow_0 18 rfl rfl)
theorem dX5_levelNow_19 : decode cX5_levelNow 19 = .ok (.istore 4, 2) := dk_54 4 (dk_at dksX5_levelNow_0 19 rfl rfl)
theorem dX5_levelNow_21 : decode cX5_levelNow 21 = .ok (.iload_n 2, 1) := dk_28 (dk_at dksX5_levelNow_0 21 rfl rfl)
theorem dX5_levelNow_22 : decode cX5_levelNow 22 = .ok (.iload 4, 2) := dk_21 4 (dk_at dksX5_levelNow_0 22 rfl rfl)
theorem dX5_levelNow_24 : decode cX5_levelNow 24 = .ok (.iconst (-1), 1) := dk_2 (dk_at dksX5_levelNow_1 0 rfl rfl)
theorem dX5_levelNow_25 : decode cX5_levelNow 25 = .ok (.if_icmp .eq 21, 3) := dk_159 0 21 (dk_at dksX5_levelNow_1 1 rfl rfl)
theorem dX5_levelNow_28 : decode cX5_levelNow 28 = .ok (.aload_n 0, 1) := dk_42 (dk_at dksX5_levelNow_1 4 rfl rfl)
theorem dX5_levelNow_29 : decode cX5_levelNow 29 = .ok (.getfield 247, 3) := dk_180 0 247 (dk_at dksX5_levelNow_1 5 rfl rfl)
theorem dX5_levelNow_32 : decode cX5_levelNow 32 = .ok (.iload 4, 2) := dk_21 4 (dk_at dksX5_levelNow_1 8 rfl rfl)
theorem dX5_levelNow_34 : decode cX5_levelNow 34 = .ok (.isub, 1) := dk_100 (dk_at dksX5_levelNow_1 10 rfl rfl)
theorem dX5_levelNow_35 : decode cX5_levelNow 35 = .ok (.bipush 120, 2) := dk_16 120 (dk_at dksX5_levelNow_1 11 rfl rfl)
theorem dX5_levelNow_37 : decode cX5_levelNow 37 = .ok (.if_icmp .gt 9, 3) := dk_163 0 9 (dk_at dksX5_levelNow_1 13 rfl rfl)
theorem dX5_levelNow_40 : decode cX5_levelNow 40 = .ok (.iconst 1, 1) := dk_4 (dk_at dksX5_levelNow_1 16 rfl rfl)
theorem dX5_levelNow_41 : decode cX5_levelNow 41 = .ok (.iload_n 3, 1) := dk_29 (dk_at dksX5_levelNow_1 17 rfl rfl)
theorem dX5_levelNow_42 : decode cX5_levelNow 42 = .ok (.ishl, 1) := dk_120 (dk_at dksX5_levelNow_1 18 rfl rfl)
theorem dX5_levelNow_43 : decode cX5_levelNow 43 = .ok (.goto 4, 3) := dk_167 0 4 (dk_at dksX5_levelNow_1 19 rfl rfl)
theorem dX5_levelNow_46 : decode cX5_levelNow 46 = .ok (.iconst 0, 1) := dk_3 (dk_at dksX5_levelNow_1 22 rfl rfl)
theorem dX5_levelNow_47 : decode cX5_levelNow 47 = .ok (.ior, 1) := dk_128 (dk_at dksX5_levelNow_1 23 rfl rfl)
theorem dX5_levelNow_48 : decode cX5_levelNow 48 = .ok (.istore_n 2, 1) := dk_61 (dk_at dksX5_levelNow_2 0 rfl rfl)
theorem dX5_levelNow_49 : decode cX5_levelNow 49 = .ok (.iinc 3 1, 3) := dk_132 3 1 (dk_at dksX5_levelNow_2 1 rfl rfl)
theorem dX5_levelNow_52 : decode cX5_levelNow 52 = .ok (.goto (-48), 3) := dk_167 255 208 (dk_at dksX5_levelNow_2 4 rfl rfl)
theorem dX5_levelNow_55 : decode cX5_levelNow 55 = .ok (.iload_n 2, 1) := dk_28 (dk_at dksX5_levelNow_2 7 rfl rfl)
theorem dX5_levelNow_56 : decode cX5_levelNow 56 = .ok (.invokestatic 309, 3) := dk_184 1 53 (dk_at dksX5_levelNow_2 8 rfl rfl)
theorem dX5_levelNow_59 : decode cX5_levelNow 59 = .ok (.ireturn, 1) := dk_172 (dk_at dksX5_levelNow_2 11 rfl rfl)
abbrev cX5_stepUp : ByteArray := prog_14_method_61_code
def yX5_stepUp : MethodName := ⟨RX5, "stepUp", "(IIZI)I"⟩
def dkwX5_stepUp_5 : List UInt8 := [182, 1, 99, 172]
abbrev dktX5_stepUp_5 : List UInt8 := dkwX5_stepUp_5 ++ []
def dkwX5_stepUp_4 : List UInt8 := [182, 1, 92, 153, 0, 17, 42, 180, 0, 107, 6, 27, 104, 28, 96, 42, 180, 0, 247, 79, 42, 27]
abbrev dktX5_stepUp_4 : List UInt8 := dkwX5_stepUp_4 ++ dktX5_stepUp_5
def dkwX5_stepUp_3 : List UInt8 := [3, 172, 42, 180, 0, 98, 27, 42, 180, 0, 247, 79, 42, 42, 180, 0, 92, 27, 46, 28, 29, 21, 4]
abbrev dktX5_stepUp_3 : List UInt8 := dkwX5_stepUp_3 ++ dktX5_stepUp_4
def dkwX5_stepUp_2 : List UInt8 := [153, 0, 17, 42, 180, 0, 101, 27, 46, 2, 160, 0, 7, 4, 167, 0, 4, 3, 182, 1, 88, 154, 0, 5]
abbrev dktX5_stepUp_2 : List UInt8 := dkwX5_stepUp_2 ++ dktX5_stepUp_3
def dkwX5_stepUp_1 : List UInt8 := [184, 0, 228, 153, 0, 7, 4, 167, 0, 4, 3, 21, 5, 153, 0, 26, 42, 180, 0, 104, 27, 51]
abbrev dktX5_stepUp_1 : List UInt8 := dkwX5_stepUp_1 ++ dktX5_stepUp_2
def dkwX5_stepUp_0 : List UInt8 := [42, 27, 182, 1, 96, 54, 5, 42, 21, 5, 28, 184, 1, 32, 153, 0, 19, 21, 4, 3, 17, 39, 15]
abbrev dktX5_stepUp_0 : List UInt8 := dkwX5_stepUp_0 ++ dktX5_stepUp_1
theorem dksX5_stepUp_0 : cX5_stepUp.data.toList.drop 0 = dktX5_stepUp_0 := by decide +kernel
theorem dksX5_stepUp_1 : cX5_stepUp.data.toList.drop 23 = dktX5_stepUp_1 := dk_seg dksX5_stepUp_0 23 rfl rfl
theorem dksX5_stepUp_2 : cX5_stepUp.data.toList.drop 45 = dktX5_stepUp_2 := dk_seg dksX5_stepUp_1 22 rfl rfl
theorem dksX5_stepUp_3 : cX5_stepUp.data.toList.drop 69 = dktX5_stepUp_3 := dk_seg dksX5_stepUp_2 24 rfl rfl
theorem dksX5_stepUp_4 : cX5_stepUp.data.toList.drop 92 = dktX5_stepUp_4 := dk_seg dksX5_stepUp_3 23 rfl rfl
theorem dksX5_stepUp_5 : cX5_stepUp.data.toList.drop 114 = dktX5_stepUp_5 := dk_seg dksX5_stepUp_4 22 rfl rfl
theorem dX5_stepUp_0 : decode cX5_stepUp 0 = .ok (.aload_n 0, 1) := dk_42 (dk_at dksX5_stepUp_0 0 rfl rfl)
theorem dX5_stepUp_1 : decode cX5_stepUp 1 = .ok (.iload_n 1, 1) := dk_27 (dk_at dksX5_stepUp_0 1 rfl rfl)
theorem dX5_stepUp_2 : decode cX5_stepUp 2 = .ok (.invokevirtual 352, 3) := dk_182 1 96 (dk_at dksX5_stepUp_0 2 rfl rfl)
theorem dX5_stepUp_5 : decode cX5_stepUp 5 = .ok (.istore 5, 2) := dk_54 5 (dk_at dksX5_stepUp_0 5 rfl rfl)
theorem dX5_stepUp_7 : decode cX5_stepUp 7 = .ok (.aload_n 0, 1) := dk_42 (dk_at dksX5_stepUp_0 7 rfl rfl)
theorem dX5_stepUp_8 : decode cX5_stepUp 8 = .ok (.iload 5, 2) := dk_21 5 (dk_at dksX5_stepUp_0 8 rfl rfl)
theorem dX5_stepUp_10 : decode cX5_stepUp 10 = .ok (.iload_n 2, 1) := dk_28 (dk_at dksX5_stepUp_0 10 rfl rfl)
theorem dX5_stepUp_11 : decode cX5_stepUp 11 = .ok (.invokestatic 288, 3) := dk_184 1 32 (dk_at dksX5_stepUp_0 11 rfl rfl)
theorem dX5_stepUp_14 : decode cX5_stepUp 14 = .ok (.ifCond .eq 19, 3) := dk_153 0 19 (dk_at dksX5_stepUp_0 14 rfl rfl)
theorem dX5_stepUp_17 : decode cX5_stepUp 17 = .ok (.iload 4, 2) := dk_21 4 (dk_at dksX5_stepUp_0 17 rfl rfl)
theorem dX5_stepUp_19 : decode cX5_stepUp 19 = .ok (.iconst 0, 1) := dk_3 (dk_at dksX5_stepUp_0 19 rfl rfl)
theorem dX5_stepUp_20 : decode cX5_stepUp 20 = .ok (.sipush 9999, 3) := dk_17 39 15 (dk_at dksX5_stepUp_0 20 rfl rfl)
theorem dX5_stepUp_23 : decode cX5_stepUp 23 = .ok (.invokestatic 228, 3) := dk_184 0 228 (dk_at dksX5_stepUp_1 0 rfl rfl)
theorem dX5_stepUp_26 : decode cX5_stepUp 26 = .ok (.ifCond .eq 7, 3) := dk_153 0 7 (dk_at dksX5_stepUp_1 3 rfl rfl)
theorem dX5_stepUp_29 : decode cX5_stepUp 29 = .ok (.iconst 1, 1) := dk_4 (dk_at dksX5_stepUp_1 6 rfl rfl)
theorem dX5_stepUp_30 : decode cX5_stepUp 30 = .ok (.goto 4, 3) := dk_167 0 4 (dk_at dksX5_stepUp_1 7 rfl rfl)
theorem dX5_stepUp_33 : decode cX5_stepUp 33 = .ok (.iconst 0, 1) := dk_3 (dk_at dksX5_stepUp_1 10 rfl rfl)
theorem dX5_stepUp_34 : decode cX5_stepUp 34 = .ok (.iload 5, 2) := dk_21 5 (dk_at dksX5_stepUp_1 11 rfl rfl)
theorem dX5_stepUp_36 : decode cX5_stepUp 36 = .ok (.ifCond .eq 26, 3) := dk_153 0 26 (dk_at dksX5_stepUp_1 13 rfl rfl)
theorem dX5_stepUp_39 : decode cX5_stepUp 39 = .ok (.aload_n 0, 1) := dk_42 (dk_at dksX5_stepUp_1 16 rfl rfl)
theorem dX5_stepUp_40 : decode cX5_stepUp 40 = .ok (.getfield 104, 3) := dk_180 0 104 (dk_at dksX5_stepUp_1 17 rfl rfl)
theorem dX5_stepUp_43 : decode cX5_stepUp 43 = .ok (.iload_n 1, 1) := dk_27 (dk_at dksX5_stepUp_1 20 rfl rfl)
theorem dX5_stepUp_44 : decode cX5_stepUp 44 = .ok (.baload, 1) := dk_51 (dk_at dksX5_stepUp_1 21 rfl rfl)
theorem dX5_stepUp_45 : decode cX5_stepUp 45 = .ok (.ifCond .eq 17, 3) := dk_153 0 17 (dk_at dksX5_stepUp_2 0 rfl rfl)
theorem dX5_stepUp_48 : decode cX5_stepUp 48 = .ok (.aload_n 0, 1) := dk_42 (dk_at dksX5_stepUp_2 3 rfl rfl)
theorem dX5_stepUp_49 : decode cX5_stepUp 49 = .ok (.getfield 101, 3) := dk_180 0 101 (dk_at dksX5_stepUp_2 4 rfl rfl)
theorem dX5_stepUp_52 : decode cX5_stepUp 52 = .ok (.iload_n 1, 1) := dk_27 (dk_at dksX5_stepUp_2 7 rfl rfl)
theorem dX5_stepUp_53 : decode cX5_stepUp 53 = .ok (.iaload, 1) := dk_46 (dk_at dksX5_stepUp_2 8 rfl rfl)
theorem dX5_stepUp_54 : decode cX5_stepUp 54 = .ok (.iconst (-1), 1) := dk_2 (dk_at dksX5_stepUp_2 9 rfl rfl)
theorem dX5_stepUp_55 : decode cX5_stepUp 55 = .ok (.if_icmp .ne 7, 3) := dk_160 0 7 (dk_at dksX5_stepUp_2 10 rfl rfl)
theorem dX5_stepUp_58 : decode cX5_stepUp 58 = .ok (.iconst 1, 1) := dk_4 (dk_at dksX5_stepUp_2 13 rfl rfl)
theorem dX5_stepUp_59 : decode cX5_stepUp 59 = .ok (.goto 4, 3) := dk_167 0 4 (dk_at dksX5_stepUp_2 14 rfl rfl)
theorem dX5_stepUp_62 : decode cX5_stepUp 62 = .ok (.iconst 0, 1) := dk_3 (dk_at dksX5_stepUp_2 17 rfl rfl)
theorem dX5_stepUp_63 : decode cX5_stepUp 63 = .ok (.invokevirtual 344, 3) := dk_182 1 88 (dk_at dksX5_stepUp_2 18 rfl rfl)
theorem dX5_stepUp_66 : decode cX5_stepUp 66 = .ok (.ifCond .ne 5, 3) := dk_154 0 5 (dk_at dksX5_stepUp_2 21 rfl rfl)
theorem dX5_stepUp_69 : decode cX5_stepUp 69 = .ok (.iconst 0, 1) := dk_3 (dk_at dksX5_stepUp_3 0 rfl rfl)
theorem dX5_stepUp_70 : decode cX5_stepUp 70 = .ok (.ireturn, 1) := dk_172 (dk_at dksX5_stepUp_3 1 rfl rfl)
theorem dX5_stepUp_71 : decode cX5_stepUp 71 = .ok (.aload_n 0, 1) := dk_42 (dk_at dksX5_stepUp_3 2 rfl rfl)
theorem dX5_stepUp_72 : decode cX5_stepUp 72 = .ok (.getfield 98, 3) := dk_180 0 98 (dk_at dksX5_stepUp_3 3 rfl rfl)
theorem dX5_stepUp_75 : decode cX5_stepUp 75 = .ok (.iload_n 1, 1) := dk_27 (dk_at dksX5_stepUp_3 6 rfl rfl)
theorem dX5_stepUp_76 : decode cX5_stepUp 76 = .ok (.aload_n 0, 1) := dk_42 (dk_at dksX5_stepUp_3 7 rfl rfl)
theorem dX5_stepUp_77 : decode cX5_stepUp 77 = .ok (.getfield 247, 3) := dk_180 0 247 (dk_at dksX5_stepUp_3 8 rfl rfl)
theorem dX5_stepUp_80 : decode cX5_stepUp 80 = .ok (.iastore, 1) := dk_79 (dk_at dksX5_stepUp_3 11 rfl rfl)
theorem dX5_stepUp_81 : decode cX5_stepUp 81 = .ok (.aload_n 0, 1) := dk_42 (dk_at dksX5_stepUp_3 12 rfl rfl)
theorem dX5_stepUp_82 : decode cX5_stepUp 82 = .ok (.aload_n 0, 1) := dk_42 (dk_at dksX5_stepUp_3 13 rfl rfl)
theorem dX5_stepUp_83 : decode cX5_stepUp 83 = .ok (.getfield 92, 3) := dk_180 0 92 (dk_at dksX5_stepUp_3 14 rfl rfl)
theorem dX5_stepUp_86 : decode cX5_stepUp 86 = .ok (.iload_n 1, 1) := dk_27 (dk_at dksX5_stepUp_3 17 rfl rfl)
theorem dX5_stepUp_87 : decode cX5_stepUp 87 = .ok (.iaload, 1) := dk_46 (dk_at dksX5_stepUp_3 18 rfl rfl)
theorem dX5_stepUp_88 : decode cX5_stepUp 88 = .ok (.iload_n 2, 1) := dk_28 (dk_at dksX5_stepUp_3 19 rfl rfl)
theorem dX5_stepUp_89 : decode cX5_stepUp 89 = .ok (.iload_n 3, 1) := dk_29 (dk_at dksX5_stepUp_3 20 rfl rfl)
theorem dX5_stepUp_90 : decode cX5_stepUp 90 = .ok (.iload 4, 2) := dk_21 4 (dk_at dksX5_stepUp_3 21 rfl rfl)
theorem dX5_stepUp_92 : decode cX5_stepUp 92 = .ok (.invokevirtual 348, 3) := dk_182 1 92 (dk_at dksX5_stepUp_4 0 rfl rfl)
theorem dX5_stepUp_95 : decode cX5_stepUp 95 = .ok (.ifCond .eq 17, 3) := dk_153 0 17 (dk_at dksX5_stepUp_4 3 rfl rfl)
theorem dX5_stepUp_98 : decode cX5_stepUp 98 = .ok (.aload_n 0, 1) := dk_42 (dk_at dksX5_stepUp_4 6 rfl rfl)
theorem dX5_stepUp_99 : decode cX5_stepUp 99 = .ok (.getfield 107, 3) := dk_180 0 107 (dk_at dksX5_stepUp_4 7 rfl rfl)
theorem dX5_stepUp_102 : decode cX5_stepUp 102 = .ok (.iconst 3, 1) := dk_6 (dk_at dksX5_stepUp_4 10 rfl rfl)
theorem dX5_stepUp_103 : decode cX5_stepUp 103 = .ok (.iload_n 1, 1) := dk_27 (dk_at dksX5_stepUp_4 11 rfl rfl)
theorem dX5_stepUp_104 : decode cX5_stepUp 104 = .ok (.imul, 1) := dk_104 (dk_at dksX5_stepUp_4 12 rfl rfl)
theorem dX5_stepUp_105 : decode cX5_stepUp 105 = .ok (.iload_n 2, 1) := dk_28 (dk_at dksX5_stepUp_4 13 rfl rfl)
theorem dX5_stepUp_106 : decode cX5_stepUp 106 = .ok (.iadd, 1) := dk_96 (dk_at dksX5_stepUp_4 14 rfl rfl)
theorem dX5_stepUp_107 : decode cX5_stepUp 107 = .ok (.aload_n 0, 1) := dk_42 (dk_at dksX5_stepUp_4 15 rfl rfl)
theorem dX5_stepUp_108 : decode cX5_stepUp 108 = .ok (.getfield 247, 3) := dk_180 0 247 (dk_at dksX5_stepUp_4 16 rfl rfl)
theorem dX5_stepUp_111 : decode cX5_stepUp 111 = .ok (.iastore, 1) := dk_79 (dk_at dksX5_stepUp_4 19 rfl rfl)
theorem dX5_stepUp_112 : decode cX5_stepUp 112 = .ok (.aload_n 0, 1) := dk_42 (dk_at dksX5_stepUp_4 20 rfl rfl)
theorem dX5_stepUp_113 : decode cX5_stepUp 113 = .ok (.iload_n 1, 1) := dk_27 (dk_at dksX5_stepUp_4 21 rfl rfl)
theorem dX5_stepUp_114 : decode cX5_stepUp 114 = .ok (.invokevirtual 355, 3) := dk_182 1 99 (dk_at dksX5_stepUp_5 0 rfl rfl)
theorem dX5_stepUp_117 : decode cX5_stepUp 117 = .ok (.ireturn, 1) := dk_172 (dk_at dksX5_stepUp_5 3 rfl rfl)
abbrev cX5_signOut : ByteArray := prog_14_method_62_code
def yX5_signOut : MethodName := ⟨RX5, "signOut", "(I)I"⟩
def dkwX5_signOut_1 : List UInt8 := [167, 0, 4, 3, 182, 1, 18, 153, 0, 11, 42, 27, 182, 1, 14, 167, 0, 4, 3, 172]
abbrev dktX5_signOut_1 : List UInt8 := dkwX5_signOut_1 ++ []
def dkwX5_signOut_0 : List UInt8 := [42, 27, 182, 1, 96, 61, 42, 28, 28, 153, 0, 16, 42, 180, 0, 104, 27, 51, 153, 0, 7, 4]
abbrev dktX5_signOut_0 : List UInt8 := dkwX5_signOut_0 ++ dktX5_signOut_1
theorem dksX5_signOut_0 : cX5_signOut.data.toList.drop 0 = dktX5_signOut_0 := by decide +kernel
theorem dksX5_signOut_1 : cX5_signOut.data.toList.drop 22 = dktX5_signOut_1 := dk_seg dksX5_signOut_0 22 rfl rfl
theorem dX5_signOut_0 : decode cX5_signOut 0 = .ok (.aload_n 0, 1) := dk_42 (dk_at dksX5_signOut_0 0 rfl rfl)
theorem dX5_signOut_1 : decode cX5_signOut 1 = .ok (.iload_n 1, 1) := dk_27 (dk_at dksX5_signOut_0 1 rfl rfl)
theorem dX5_signOut_2 : decode cX5_signOut 2 = .ok (.invokevirtual 352, 3) := dk_182 1 96 (dk_at dksX5_signOut_0 2 rfl rfl)
theorem dX5_signOut_5 : decode cX5_signOut 5 = .ok (.istore_n 2, 1) := dk_61 (dk_at dksX5_signOut_0 5 rfl rfl)
theorem dX5_signOut_6 : decode cX5_signOut 6 = .ok (.aload_n 0, 1) := dk_42 (dk_at dksX5_signOut_0 6 rfl rfl)
theorem dX5_signOut_7 : decode cX5_signOut 7 = .ok (.iload_n 2, 1) := dk_28 (dk_at dksX5_signOut_0 7 rfl rfl)
theorem dX5_signOut_8 : decode cX5_signOut 8 = .ok (.iload_n 2, 1) := dk_28 (dk_at dksX5_signOut_0 8 rfl rfl)
theorem dX5_signOut_9 : decode cX5_signOut 9 = .ok (.ifCond .eq 16, 3) := dk_153 0 16 (dk_at dksX5_signOut_0 9 rfl rfl)
theorem dX5_signOut_12 : decode cX5_signOut 12 = .ok (.aload_n 0, 1) := dk_42 (dk_at dksX5_signOut_0 12 rfl rfl)
theorem dX5_signOut_13 : decode cX5_signOut 13 = .ok (.getfield 104, 3) := dk_180 0 104 (dk_at dksX5_signOut_0 13 rfl rfl)
theorem dX5_signOut_16 : decode cX5_signOut 16 = .ok (.iload_n 1, 1) := dk_27 (dk_at dksX5_signOut_0 16 rfl rfl)
theorem dX5_signOut_17 : decode cX5_signOut 17 = .ok (.baload, 1) := dk_51 (dk_at dksX5_signOut_0 17 rfl rfl)
theorem dX5_signOut_18 : decode cX5_signOut 18 = .ok (.ifCond .eq 7, 3) := dk_153 0 7 (dk_at dksX5_signOut_0 18 rfl rfl)
theorem dX5_signOut_21 : decode cX5_signOut 21 = .ok (.iconst 1, 1) := dk_4 (dk_at dksX5_signOut_0 21 rfl rfl)
theorem dX5_signOut_22 : decode cX5_signOut 22 = .ok (.goto 4, 3) := dk_167 0 4 (dk_at dksX5_signOut_1 0 rfl rfl)
theorem dX5_signOut_25 : decode cX5_signOut 25 = .ok (.iconst 0, 1) := dk_3 (dk_at dksX5_signOut_1 3 rfl rfl)
theorem dX5_signOut_26 : decode cX5_signOut 26 = .ok (.invokevirtual 274, 3) := dk_182 1 18 (dk_at dksX5_signOut_1 4 rfl rfl)
theorem dX5_signOut_29 : decode cX5_signOut 29 = .ok (.ifCond .eq 11, 3) := dk_153 0 11 (dk_at dksX5_signOut_1 7 rfl rfl)
theorem dX5_signOut_32 : decode cX5_signOut 32 = .ok (.aload_n 0, 1) := dk_42 (dk_at dksX5_signOut_1 10 rfl rfl)
theorem dX5_signOut_33 : decode cX5_signOut 33 = .ok (.iload_n 1, 1) := dk_27 (dk_at dksX5_signOut_1 11 rfl rfl)
theorem dX5_signOut_34 : decode cX5_signOut 34 = .ok (.invokevirtual 270, 3) := dk_182 1 14 (dk_at dksX5_signOut_1 12 rfl rfl)
theorem dX5_signOut_37 : decode cX5_signOut 37 = .ok (.goto 4, 3) := dk_167 0 4 (dk_at dksX5_signOut_1 15 rfl rfl)
theorem dX5_signOut_40 : decode cX5_signOut 40 = .ok (.iconst 0, 1) := dk_3 (dk_at dksX5_signOut_1 18 rfl rfl)
theorem dX5_signOut_41 : decode cX5_signOut 41 = .ok (.ireturn, 1) := dk_172 (dk_at dksX5_signOut_1 19 rfl rfl)
abbrev cX5_helper : ByteArray := prog_14_method_63_code
def yX5_helper : MethodName := ⟨RX5, "helper", "(I)Z"⟩
def dkwX5_helper_1 : List UInt8 := [154, 0, 7, 4, 167, 0, 4, 3, 84, 42, 180, 0, 32, 27, 51, 172]
abbrev dktX5_helper_1 : List UInt8 := dkwX5_helper_1 ++ []
def dkwX5_helper_0 : List UInt8 := [42, 27, 184, 1, 28, 182, 0, 251, 154, 0, 5, 3, 172, 42, 180, 0, 32, 27, 42, 180, 0, 32, 27, 51]
abbrev dktX5_helper_0 : List UInt8 := dkwX5_helper_0 ++ dktX5_helper_1
theorem dksX5_helper_0 : cX5_helper.data.toList.drop 0 = dktX5_helper_0 := by decide +kernel
theorem dksX5_helper_1 : cX5_helper.data.toList.drop 24 = dktX5_helper_1 := dk_seg dksX5_helper_0 24 rfl rfl
theorem dX5_helper_0 : decode cX5_helper 0 = .ok (.aload_n 0, 1) := dk_42 (dk_at dksX5_helper_0 0 rfl rfl)
theorem dX5_helper_1 : decode cX5_helper 1 = .ok (.iload_n 1, 1) := dk_27 (dk_at dksX5_helper_0 1 rfl rfl)
theorem dX5_helper_2 : decode cX5_helper 2 = .ok (.invokestatic 284, 3) := dk_184 1 28 (dk_at dksX5_helper_0 2 rfl rfl)
theorem dX5_helper_5 : decode cX5_helper 5 = .ok (.invokevirtual 251, 3) := dk_182 0 251 (dk_at dksX5_helper_0 5 rfl rfl)
theorem dX5_helper_8 : decode cX5_helper 8 = .ok (.ifCond .ne 5, 3) := dk_154 0 5 (dk_at dksX5_helper_0 8 rfl rfl)
theorem dX5_helper_11 : decode cX5_helper 11 = .ok (.iconst 0, 1) := dk_3 (dk_at dksX5_helper_0 11 rfl rfl)
theorem dX5_helper_12 : decode cX5_helper 12 = .ok (.ireturn, 1) := dk_172 (dk_at dksX5_helper_0 12 rfl rfl)
theorem dX5_helper_13 : decode cX5_helper 13 = .ok (.aload_n 0, 1) := dk_42 (dk_at dksX5_helper_0 13 rfl rfl)
theorem dX5_helper_14 : decode cX5_helper 14 = .ok (.getfield 32, 3) := dk_180 0 32 (dk_at dksX5_helper_0 14 rfl rfl)
theorem dX5_helper_17 : decode cX5_helper 17 = .ok (.iload_n 1, 1) := dk_27 (dk_at dksX5_helper_0 17 rfl rfl)
theorem dX5_helper_18 : decode cX5_helper 18 = .ok (.aload_n 0, 1) := dk_42 (dk_at dksX5_helper_0 18 rfl rfl)
theorem dX5_helper_19 : decode cX5_helper 19 = .ok (.getfield 32, 3) := dk_180 0 32 (dk_at dksX5_helper_0 19 rfl rfl)
theorem dX5_helper_22 : decode cX5_helper 22 = .ok (.iload_n 1, 1) := dk_27 (dk_at dksX5_helper_0 22 rfl rfl)
theorem dX5_helper_23 : decode cX5_helper 23 = .ok (.baload, 1) := dk_51 (dk_at dksX5_helper_0 23 rfl rfl)
theorem dX5_helper_24 : decode cX5_helper 24 = .ok (.ifCond .ne 7, 3) := dk_154 0 7 (dk_at dksX5_helper_1 0 rfl rfl)
theorem dX5_helper_27 : decode cX5_helper 27 = .ok (.iconst 1, 1) := dk_4 (dk_at dksX5_helper_1 3 rfl rfl)
theorem dX5_helper_28 : decode cX5_helper 28 = .ok (.goto 4, 3) := dk_167 0 4 (dk_at dksX5_helper_1 4 rfl rfl)
theorem dX5_helper_31 : decode cX5_helper 31 = .ok (.iconst 0, 1) := dk_3 (dk_at dksX5_helper_1 7 rfl rfl)
theorem dX5_helper_32 : decode cX5_helper 32 = .ok (.bastore, 1) := dk_84 (dk_at dksX5_helper_1 8 rfl rfl)
theorem dX5_helper_33 : decode cX5_helper 33 = .ok (.aload_n 0, 1) := dk_42 (dk_at dksX5_helper_1 9 rfl rfl)
theorem dX5_helper_34 : decode cX5_helper 34 = .ok (.getfield 32, 3) := dk_180 0 32 (dk_at dksX5_helper_1 10 rfl rfl)
theorem dX5_helper_37 : decode cX5_helper 37 = .ok (.iload_n 1, 1) := dk_27 (dk_at dksX5_helper_1 13 rfl rfl)
theorem dX5_helper_38 : decode cX5_helper 38 = .ok (.baload, 1) := dk_51 (dk_at dksX5_helper_1 14 rfl rfl)
theorem dX5_helper_39 : decode cX5_helper 39 = .ok (.ireturn, 1) := dk_172 (dk_at dksX5_helper_1 15 rfl rfl)
abbrev cX5_act : ByteArray := prog_14_method_64_code
def yX5_act : MethodName := ⟨RX5, "act", "(II)I"⟩
def dkwX5_act_7 : List UInt8 := [21, 6, 96, 46, 79, 132, 6, 1, 167, 255, 224, 21, 5, 172]
abbrev dktX5_act_7 : List UInt8 := dkwX5_act_7 ++ []
def dkwX5_act_6 : List UInt8 := [21, 6, 6, 162, 0, 32, 42, 180, 0, 107, 6, 21, 5, 104, 21, 6, 96, 42, 180, 0, 107, 6, 27, 104]
abbrev dktX5_act_6 : List UInt8 := dkwX5_act_6 ++ dktX5_act_7
def dkwX5_act_5 : List UInt8 := [42, 29, 21, 4, 182, 1, 18, 154, 0, 5, 3, 172, 42, 28, 27, 182, 1, 72, 54, 5, 3, 54, 6]
abbrev dktX5_act_5 : List UInt8 := dkwX5_act_5 ++ dktX5_act_6
def dkwX5_act_4 : List UInt8 := [180, 0, 29, 28, 51, 154, 0, 16, 42, 180, 0, 235, 16, 60, 162, 0, 7, 4, 167, 0, 4, 3, 54, 4]
abbrev dktX5_act_4 : List UInt8 := dkwX5_act_4 ++ dktX5_act_5
def dkwX5_act_3 : List UInt8 := [167, 0, 4, 3, 54, 4, 21, 4, 153, 0, 35, 42, 180, 0, 92, 27, 46, 28, 159, 0, 25, 42]
abbrev dktX5_act_3 : List UInt8 := dkwX5_act_3 ++ dktX5_act_4
def dkwX5_act_2 : List UInt8 := [182, 1, 99, 6, 161, 0, 21, 42, 180, 0, 32, 42, 180, 0, 92, 27, 46, 51, 153, 0, 7, 4]
abbrev dktX5_act_2 : List UInt8 := dkwX5_act_2 ++ dktX5_act_3
def dkwX5_act_1 : List UInt8 := [153, 0, 49, 42, 180, 0, 104, 27, 51, 153, 0, 40, 42, 180, 0, 101, 27, 46, 2, 160, 0, 30, 42, 27]
abbrev dktX5_act_1 : List UInt8 := dkwX5_act_1 ++ dktX5_act_2
def dkwX5_act_0 : List UInt8 := [42, 27, 182, 1, 96, 153, 0, 14, 28, 184, 1, 28, 153, 0, 7, 4, 167, 0, 4, 3, 62, 29]
abbrev dktX5_act_0 : List UInt8 := dkwX5_act_0 ++ dktX5_act_1
theorem dksX5_act_0 : cX5_act.data.toList.drop 0 = dktX5_act_0 := by decide +kernel
theorem dksX5_act_1 : cX5_act.data.toList.drop 22 = dktX5_act_1 := dk_seg dksX5_act_0 22 rfl rfl
theorem dksX5_act_2 : cX5_act.data.toList.drop 46 = dktX5_act_2 := dk_seg dksX5_act_1 24 rfl rfl
theorem dksX5_act_3 : cX5_act.data.toList.drop 68 = dktX5_act_3 := dk_seg dksX5_act_2 22 rfl rfl
theorem dksX5_act_4 : cX5_act.data.toList.drop 90 = dktX5_act_4 := dk_seg dksX5_act_3 22 rfl rfl
theorem dksX5_act_5 : cX5_act.data.toList.drop 114 = dktX5_act_5 := dk_seg dksX5_act_4 24 rfl rfl
theorem dksX5_act_6 : cX5_act.data.toList.drop 137 = dktX5_act_6 := dk_seg dksX5_act_5 23 rfl rfl
theorem dksX5_act_7 : cX5_act.data.toList.drop 161 = dktX5_act_7 := dk_seg dksX5_act_6 24 rfl rfl
theorem dX5_act_0 : decode cX5_act 0 = .ok (.aload_n 0, 1) := dk_42 (dk_at dksX5_act_0 0 rfl rfl)
theorem dX5_act_1 : decode cX5_act 1 = .ok (.iload_n 1, 1) := dk_27 (dk_at dksX5_act_0 1 rfl rfl)
theorem dX5_act_2 : decode cX5_act 2 = .ok (.invokevirtual 352, 3) := dk_182 1 96 (dk_at dksX5_act_0 2 rfl rfl)
theorem dX5_act_5 : decode cX5_act 5 = .ok (.ifCond .eq 14, 3) := dk_153 0 14 (dk_at dksX5_act_0 5 rfl rfl)
theorem dX5_act_8 : decode cX5_act 8 = .ok (.iload_n 2, 1) := dk_28 (dk_at dksX5_act_0 8 rfl rfl)
theorem dX5_act_9 : decode cX5_act 9 = .ok (.invokestatic 284, 3) := dk_184 1 28 (dk_at dksX5_act_0 9 rfl rfl)
theorem dX5_act_12 : decode cX5_act 12 = .ok (.ifCond .eq 7, 3) := dk_153 0 7 (dk_at dksX5_act_0 12 rfl rfl)
theorem dX5_act_15 : decode cX5_act 15 = .ok (.iconst 1, 1) := dk_4 (dk_at dksX5_act_0 15 rfl rfl)
theorem dX5_act_16 : decode cX5_act 16 = .ok (.goto 4, 3) := dk_167 0 4 (dk_at dksX5_act_0 16 rfl rfl)
theorem dX5_act_19 : decode cX5_act 19 = .ok (.iconst 0, 1) := dk_3 (dk_at dksX5_act_0 19 rfl rfl)
theorem dX5_act_20 : decode cX5_act 20 = .ok (.istore_n 3, 1) := dk_62 (dk_at dksX5_act_0 20 rfl rfl)
theorem dX5_act_21 : decode cX5_act 21 = .ok (.iload_n 3, 1) := dk_29 (dk_at dksX5_act_0 21 rfl rfl)
theorem dX5_act_22 : decode cX5_act 22 = .ok (.ifCond .eq 49, 3) := dk_153 0 49 (dk_at dksX5_act_1 0 rfl rfl)
theorem dX5_act_25 : decode cX5_act 25 = .ok (.aload_n 0, 1) := dk_42 (dk_at dksX5_act_1 3 rfl rfl)
theorem dX5_act_26 : decode cX5_act 26 = .ok (.getfield 104, 3) := dk_180 0 104 (dk_at dksX5_act_1 4 rfl rfl)
theorem dX5_act_29 : decode cX5_act 29 = .ok (.iload_n 1, 1) := dk_27 (dk_at dksX5_act_1 7 rfl rfl)
theorem dX5_act_30 : decode cX5_act 30 = .ok (.baload, 1) := dk_51 (dk_at dksX5_act_1 8 rfl rfl)
theorem dX5_act_31 : decode cX5_act 31 = .ok (.ifCond .eq 40, 3) := dk_153 0 40 (dk_at dksX5_act_1 9 rfl rfl)
theorem dX5_act_34 : decode cX5_act 34 = .ok (.aload_n 0, 1) := dk_42 (dk_at dksX5_act_1 12 rfl rfl)
theorem dX5_act_35 : decode cX5_act 35 = .ok (.getfield 101, 3) := dk_180 0 101 (dk_at dksX5_act_1 13 rfl rfl)
theorem dX5_act_38 : decode cX5_act 38 = .ok (.iload_n 1, 1) := dk_27 (dk_at dksX5_act_1 16 rfl rfl)
theorem dX5_act_39 : decode cX5_act 39 = .ok (.iaload, 1) := dk_46 (dk_at dksX5_act_1 17 rfl rfl)
theorem dX5_act_40 : decode cX5_act 40 = .ok (.iconst (-1), 1) := dk_2 (dk_at dksX5_act_1 18 rfl rfl)
theorem dX5_act_41 : decode cX5_act 41 = .ok (.if_icmp .ne 30, 3) := dk_160 0 30 (dk_at dksX5_act_1 19 rfl rfl)
theorem dX5_act_44 : decode cX5_act 44 = .ok (.aload_n 0, 1) := dk_42 (dk_at dksX5_act_1 22 rfl rfl)
theorem dX5_act_45 : decode cX5_act 45 = .ok (.iload_n 1, 1) := dk_27 (dk_at dksX5_act_1 23 rfl rfl)
theorem dX5_act_46 : decode cX5_act 46 = .ok (.invokevirtual 355, 3) := dk_182 1 99 (dk_at dksX5_act_2 0 rfl rfl)
theorem dX5_act_49 : decode cX5_act 49 = .ok (.iconst 3, 1) := dk_6 (dk_at dksX5_act_2 3 rfl rfl)
theorem dX5_act_50 : decode cX5_act 50 = .ok (.if_icmp .lt 21, 3) := dk_161 0 21 (dk_at dksX5_act_2 4 rfl rfl)
theorem dX5_act_53 : decode cX5_act 53 = .ok (.aload_n 0, 1) := dk_42 (dk_at dksX5_act_2 7 rfl rfl)
theorem dX5_act_54 : decode cX5_act 54 = .ok (.getfield 32, 3) := dk_180 0 32 (dk_at dksX5_act_2 8 rfl rfl)
theorem dX5_act_57 : decode cX5_act 57 = .ok (.aload_n 0, 1) := dk_42 (dk_at dksX5_act_2 11 rfl rfl)
theorem dX5_act_58 : decode cX5_act 58 = .ok (.getfield 92, 3) := dk_180 0 92 (dk_at dksX5_act_2 12 rfl rfl)
theorem dX5_act_61 : decode cX5_act 61 = .ok (.iload_n 1, 1) := dk_27 (dk_at dksX5_act_2 15 rfl rfl)
theorem dX5_act_62 : decode cX5_act 62 = .ok (.iaload, 1) := dk_46 (dk_at dksX5_act_2 16 rfl rfl)
theorem dX5_act_63 : decode cX5_act 63 = .ok (.baload, 1) := dk_51 (dk_at dksX5_act_2 17 rfl rfl)
theorem dX5_act_64 : decode cX5_act 64 = .ok (.ifCond .eq 7, 3) := dk_153 0 7 (dk_at dksX5_act_2 18 rfl rfl)
theorem dX5_act_67 : decode cX5_act 67 = .ok (.iconst 1, 1) := dk_4 (dk_at dksX5_act_2 21 rfl rfl)
theorem dX5_act_68 : decode cX5_act 68 = .ok (.goto 4, 3) := dk_167 0 4 (dk_at dksX5_act_3 0 rfl rfl)
theorem dX5_act_71 : decode cX5_act 71 = .ok (.iconst 0, 1) := dk_3 (dk_at dksX5_act_3 3 rfl rfl)
theorem dX5_act_72 : decode cX5_act 72 = .ok (.istore 4, 2) := dk_54 4 (dk_at dksX5_act_3 4 rfl rfl)
theorem dX5_act_74 : decode cX5_act 74 = .ok (.iload 4, 2) := dk_21 4 (dk_at dksX5_act_3 6 rfl rfl)
theorem dX5_act_76 : decode cX5_act 76 = .ok (.ifCond .eq 35, 3) := dk_153 0 35 (dk_at dksX5_act_3 8 rfl rfl)
theorem dX5_act_79 : decode cX5_act 79 = .ok (.aload_n 0, 1) := dk_42 (dk_at dksX5_act_3 11 rfl rfl)
theorem dX5_act_80 : decode cX5_act 80 = .ok (.getfield 92, 3) := dk_180 0 92 (dk_at dksX5_act_3 12 rfl rfl)
theorem dX5_act_83 : decode cX5_act 83 = .ok (.iload_n 1, 1) := dk_27 (dk_at dksX5_act_3 15 rfl rfl)
theorem dX5_act_84 : decode cX5_act 84 = .ok (.iaload, 1) := dk_46 (dk_at dksX5_act_3 16 rfl rfl)
theorem dX5_act_85 : decode cX5_act 85 = .ok (.iload_n 2, 1) := dk_28 (dk_at dksX5_act_3 17 rfl rfl)
theorem dX5_act_86 : decode cX5_act 86 = .ok (.if_icmp .eq 25, 3) := dk_159 0 25 (dk_at dksX5_act_3 18 rfl rfl)
theorem dX5_act_89 : decode cX5_act 89 = .ok (.aload_n 0, 1) := dk_42 (dk_at dksX5_act_3 21 rfl rfl)
theorem dX5_act_90 : decode cX5_act 90 = .ok (.getfield 29, 3) := dk_180 0 29 (dk_at dksX5_act_4 0 rfl rfl)
theorem dX5_act_93 : decode cX5_act 93 = .ok (.iload_n 2, 1) := dk_28 (dk_at dksX5_act_4 3 rfl rfl)
theorem dX5_act_94 : decode cX5_act 94 = .ok (.baload, 1) := dk_51 (dk_at dksX5_act_4 4 rfl rfl)
theorem dX5_act_95 : decode cX5_act 95 = .ok (.ifCond .ne 16, 3) := dk_154 0 16 (dk_at dksX5_act_4 5 rfl rfl)
theorem dX5_act_98 : decode cX5_act 98 = .ok (.aload_n 0, 1) := dk_42 (dk_at dksX5_act_4 8 rfl rfl)
theorem dX5_act_99 : decode cX5_act 99 = .ok (.getfield 235, 3) := dk_180 0 235 (dk_at dksX5_act_4 9 rfl rfl)
theorem dX5_act_102 : decode cX5_act 102 = .ok (.bipush 60, 2) := dk_16 60 (dk_at dksX5_act_4 12 rfl rfl)
theorem dX5_act_104 : decode cX5_act 104 = .ok (.if_icmp .ge 7, 3) := dk_162 0 7 (dk_at dksX5_act_4 14 rfl rfl)
theorem dX5_act_107 : decode cX5_act 107 = .ok (.iconst 1, 1) := dk_4 (dk_at dksX5_act_4 17 rfl rfl)
theorem dX5_act_108 : decode cX5_act 108 = .ok (.goto 4, 3) := dk_167 0 4 (dk_at dksX5_act_4 18 rfl rfl)
theorem dX5_act_111 : decode cX5_act 111 = .ok (.iconst 0, 1) := dk_3 (dk_at dksX5_act_4 21 rfl rfl)
theorem dX5_act_112 : decode cX5_act 112 = .ok (.istore 4, 2) := dk_54 4 (dk_at dksX5_act_4 22 rfl rfl)
theorem dX5_act_114 : decode cX5_act 114 = .ok (.aload_n 0, 1) := dk_42 (dk_at dksX5_act_5 0 rfl rfl)
theorem dX5_act_115 : decode cX5_act 115 = .ok (.iload_n 3, 1) := dk_29 (dk_at dksX5_act_5 1 rfl rfl)
theorem dX5_act_116 : decode cX5_act 116 = .ok (.iload 4, 2) := dk_21 4 (dk_at dksX5_act_5 2 rfl rfl)
theorem dX5_act_118 : decode cX5_act 118 = .ok (.invokevirtual 274, 3) := dk_182 1 18 (dk_at dksX5_act_5 4 rfl rfl)
theorem dX5_act_121 : decode cX5_act 121 = .ok (.ifCond .ne 5, 3) := dk_154 0 5 (dk_at dksX5_act_5 7 rfl rfl)
theorem dX5_act_124 : decode cX5_act 124 = .ok (.iconst 0, 1) := dk_3 (dk_at dksX5_act_5 10 rfl rfl)
theorem dX5_act_125 : decode cX5_act 125 = .ok (.ireturn, 1) := dk_172 (dk_at dksX5_act_5 11 rfl rfl)
theorem dX5_act_126 : decode cX5_act 126 = .ok (.aload_n 0, 1) := dk_42 (dk_at dksX5_act_5 12 rfl rfl)
theorem dX5_act_127 : decode cX5_act 127 = .ok (.iload_n 2, 1) := dk_28 (dk_at dksX5_act_5 13 rfl rfl)
theorem dX5_act_128 : decode cX5_act 128 = .ok (.iload_n 1, 1) := dk_27 (dk_at dksX5_act_5 14 rfl rfl)
theorem dX5_act_129 : decode cX5_act 129 = .ok (.invokevirtual 328, 3) := dk_182 1 72 (dk_at dksX5_act_5 15 rfl rfl)
theorem dX5_act_132 : decode cX5_act 132 = .ok (.istore 5, 2) := dk_54 5 (dk_at dksX5_act_5 18 rfl rfl)
theorem dX5_act_134 : decode cX5_act 134 = .ok (.iconst 0, 1) := dk_3 (dk_at dksX5_act_5 20 rfl rfl)
theorem dX5_act_135 : decode cX5_act 135 = .ok (.istore 6, 2) := dk_54 6 (dk_at dksX5_act_5 21 rfl rfl)
theorem dX5_act_137 : decode cX5_act 137 = .ok (.iload 6, 2) := dk_21 6 (dk_at dksX5_act_6 0 rfl rfl)
theorem dX5_act_139 : decode cX5_act 139 = .ok (.iconst 3, 1) := dk_6 (dk_at dksX5_act_6 2 rfl rfl)
theorem dX5_act_140 : decode cX5_act 140 = .ok (.if_icmp .ge 32, 3) := dk_162 0 32 (dk_at dksX5_act_6 3 rfl rfl)
theorem dX5_act_143 : decode cX5_act 143 = .ok (.aload_n 0, 1) := dk_42 (dk_at dksX5_act_6 6 rfl rfl)
theorem dX5_act_144 : decode cX5_act 144 = .ok (.getfield 107, 3) := dk_180 0 107 (dk_at dksX5_act_6 7 rfl rfl)
theorem dX5_act_147 : decode cX5_act 147 = .ok (.iconst 3, 1) := dk_6 (dk_at dksX5_act_6 10 rfl rfl)
theorem dX5_act_148 : decode cX5_act 148 = .ok (.iload 5, 2) := dk_21 5 (dk_at dksX5_act_6 11 rfl rfl)
theorem dX5_act_150 : decode cX5_act 150 = .ok (.imul, 1) := dk_104 (dk_at dksX5_act_6 13 rfl rfl)
theorem dX5_act_151 : decode cX5_act 151 = .ok (.iload 6, 2) := dk_21 6 (dk_at dksX5_act_6 14 rfl rfl)
theorem dX5_act_153 : decode cX5_act 153 = .ok (.iadd, 1) := dk_96 (dk_at dksX5_act_6 16 rfl rfl)
theorem dX5_act_154 : decode cX5_act 154 = .ok (.aload_n 0, 1) := dk_42 (dk_at dksX5_act_6 17 rfl rfl)
theorem dX5_act_155 : decode cX5_act 155 = .ok (.getfield 107, 3) := dk_180 0 107 (dk_at dksX5_act_6 18 rfl rfl)
theorem dX5_act_158 : decode cX5_act 158 = .ok (.iconst 3, 1) := dk_6 (dk_at dksX5_act_6 21 rfl rfl)
theorem dX5_act_159 : decode cX5_act 159 = .ok (.iload_n 1, 1) := dk_27 (dk_at dksX5_act_6 22 rfl rfl)
theorem dX5_act_160 : decode cX5_act 160 = .ok (.imul, 1) := dk_104 (dk_at dksX5_act_6 23 rfl rfl)
theorem dX5_act_161 : decode cX5_act 161 = .ok (.iload 6, 2) := dk_21 6 (dk_at dksX5_act_7 0 rfl rfl)
theorem dX5_act_163 : decode cX5_act 163 = .ok (.iadd, 1) := dk_96 (dk_at dksX5_act_7 2 rfl rfl)
theorem dX5_act_164 : decode cX5_act 164 = .ok (.iaload, 1) := dk_46 (dk_at dksX5_act_7 3 rfl rfl)
theorem dX5_act_165 : decode cX5_act 165 = .ok (.iastore, 1) := dk_79 (dk_at dksX5_act_7 4 rfl rfl)
theorem dX5_act_166 : decode cX5_act 166 = .ok (.iinc 6 1, 3) := dk_132 6 1 (dk_at dksX5_act_7 5 rfl rfl)
theorem dX5_act_169 : decode cX5_act 169 = .ok (.goto (-32), 3) := dk_167 255 224 (dk_at dksX5_act_7 8 rfl rfl)
theorem dX5_act_172 : decode cX5_act 172 = .ok (.iload 5, 2) := dk_21 5 (dk_at dksX5_act_7 11 rfl rfl)
theorem dX5_act_174 : decode cX5_act 174 = .ok (.ireturn, 1) := dk_172 (dk_at dksX5_act_7 13 rfl rfl)
abbrev cX5_consent : ByteArray := prog_14_method_65_code
def yX5_consent : MethodName := ⟨RX5, "consent", "(III)I"⟩
def dkwX5_consent_3 : List UInt8 := [180, 0, 110, 21, 5, 46, 172]
abbrev dktX5_consent_3 : List UInt8 := dkwX5_consent_3 ++ []
def dkwX5_consent_2 : List UInt8 := [16, 6, 167, 0, 4, 27, 104, 28, 96, 54, 5, 42, 180, 0, 110, 21, 5, 92, 46, 29, 128, 79, 42]
abbrev dktX5_consent_2 : List UInt8 := dkwX5_consent_2 ++ dktX5_consent_3
def dkwX5_consent_1 : List UInt8 := [21, 4, 29, 3, 16, 15, 184, 0, 228, 182, 1, 18, 154, 0, 5, 3, 172, 7, 27, 2, 160, 0, 8]
abbrev dktX5_consent_1 : List UInt8 := dkwX5_consent_1 ++ dktX5_consent_2
def dkwX5_consent_0 : List UInt8 := [27, 2, 8, 184, 0, 228, 153, 0, 14, 28, 184, 1, 102, 153, 0, 7, 4, 167, 0, 4, 3, 54, 4, 42]
abbrev dktX5_consent_0 : List UInt8 := dkwX5_consent_0 ++ dktX5_consent_1
theorem dksX5_consent_0 : cX5_consent.data.toList.drop 0 = dktX5_consent_0 := by decide +kernel
theorem dksX5_consent_1 : cX5_consent.data.toList.drop 24 = dktX5_consent_1 := dk_seg dksX5_consent_0 24 rfl rfl
theorem dksX5_consent_2 : cX5_consent.data.toList.drop 47 = dktX5_consent_2 := dk_seg dksX5_consent_1 23 rfl rfl
theorem dksX5_consent_3 : cX5_consent.data.toList.drop 70 = dktX5_consent_3 := dk_seg dksX5_consent_2 23 rfl rfl
theorem dX5_consent_0 : decode cX5_consent 0 = .ok (.iload_n 1, 1) := dk_27 (dk_at dksX5_consent_0 0 rfl rfl)
theorem dX5_consent_1 : decode cX5_consent 1 = .ok (.iconst (-1), 1) := dk_2 (dk_at dksX5_consent_0 1 rfl rfl)
theorem dX5_consent_2 : decode cX5_consent 2 = .ok (.iconst 5, 1) := dk_8 (dk_at dksX5_consent_0 2 rfl rfl)
theorem dX5_consent_3 : decode cX5_consent 3 = .ok (.invokestatic 228, 3) := dk_184 0 228 (dk_at dksX5_consent_0 3 rfl rfl)
theorem dX5_consent_6 : decode cX5_consent 6 = .ok (.ifCond .eq 14, 3) := dk_153 0 14 (dk_at dksX5_consent_0 6 rfl rfl)
theorem dX5_consent_9 : decode cX5_consent 9 = .ok (.iload_n 2, 1) := dk_28 (dk_at dksX5_consent_0 9 rfl rfl)
theorem dX5_consent_10 : decode cX5_consent 10 = .ok (.invokestatic 358, 3) := dk_184 1 102 (dk_at dksX5_consent_0 10 rfl rfl)
theorem dX5_consent_13 : decode cX5_consent 13 = .ok (.ifCond .eq 7, 3) := dk_153 0 7 (dk_at dksX5_consent_0 13 rfl rfl)
theorem dX5_consent_16 : decode cX5_consent 16 = .ok (.iconst 1, 1) := dk_4 (dk_at dksX5_consent_0 16 rfl rfl)
theorem dX5_consent_17 : decode cX5_consent 17 = .ok (.goto 4, 3) := dk_167 0 4 (dk_at dksX5_consent_0 17 rfl rfl)
theorem dX5_consent_20 : decode cX5_consent 20 = .ok (.iconst 0, 1) := dk_3 (dk_at dksX5_consent_0 20 rfl rfl)
theorem dX5_consent_21 : decode cX5_consent 21 = .ok (.istore 4, 2) := dk_54 4 (dk_at dksX5_consent_0 21 rfl rfl)
theorem dX5_consent_23 : decode cX5_consent 23 = .ok (.aload_n 0, 1) := dk_42 (dk_at dksX5_consent_0 23 rfl rfl)
theorem dX5_consent_24 : decode cX5_consent 24 = .ok (.iload 4, 2) := dk_21 4 (dk_at dksX5_consent_1 0 rfl rfl)
theorem dX5_consent_26 : decode cX5_consent 26 = .ok (.iload_n 3, 1) := dk_29 (dk_at dksX5_consent_1 2 rfl rfl)
theorem dX5_consent_27 : decode cX5_consent 27 = .ok (.iconst 0, 1) := dk_3 (dk_at dksX5_consent_1 3 rfl rfl)
theorem dX5_consent_28 : decode cX5_consent 28 = .ok (.bipush 15, 2) := dk_16 15 (dk_at dksX5_consent_1 4 rfl rfl)
theorem dX5_consent_30 : decode cX5_consent 30 = .ok (.invokestatic 228, 3) := dk_184 0 228 (dk_at dksX5_consent_1 6 rfl rfl)
theorem dX5_consent_33 : decode cX5_consent 33 = .ok (.invokevirtual 274, 3) := dk_182 1 18 (dk_at dksX5_consent_1 9 rfl rfl)
theorem dX5_consent_36 : decode cX5_consent 36 = .ok (.ifCond .ne 5, 3) := dk_154 0 5 (dk_at dksX5_consent_1 12 rfl rfl)
theorem dX5_consent_39 : decode cX5_consent 39 = .ok (.iconst 0, 1) := dk_3 (dk_at dksX5_consent_1 15 rfl rfl)
theorem dX5_consent_40 : decode cX5_consent 40 = .ok (.ireturn, 1) := dk_172 (dk_at dksX5_consent_1 16 rfl rfl)
theorem dX5_consent_41 : decode cX5_consent 41 = .ok (.iconst 4, 1) := dk_7 (dk_at dksX5_consent_1 17 rfl rfl)
theorem dX5_consent_42 : decode cX5_consent 42 = .ok (.iload_n 1, 1) := dk_27 (dk_at dksX5_consent_1 18 rfl rfl)
theorem dX5_consent_43 : decode cX5_consent 43 = .ok (.iconst (-1), 1) := dk_2 (dk_at dksX5_consent_1 19 rfl rfl)
theorem dX5_consent_44 : decode cX5_consent 44 = .ok (.if_icmp .ne 8, 3) := dk_160 0 8 (dk_at dksX5_consent_1 20 rfl rfl)
theorem dX5_consent_47 : decode cX5_consent 47 = .ok (.bipush 6, 2) := dk_16 6 (dk_at dksX5_consent_2 0 rfl rfl)
theorem dX5_consent_49 : decode cX5_consent 49 = .ok (.goto 4, 3) := dk_167 0 4 (dk_at dksX5_consent_2 2 rfl rfl)
theorem dX5_consent_52 : decode cX5_consent 52 = .ok (.iload_n 1, 1) := dk_27 (dk_at dksX5_consent_2 5 rfl rfl)
theorem dX5_consent_53 : decode cX5_consent 53 = .ok (.imul, 1) := dk_104 (dk_at dksX5_consent_2 6 rfl rfl)
theorem dX5_consent_54 : decode cX5_consent 54 = .ok (.iload_n 2, 1) := dk_28 (dk_at dksX5_consent_2 7 rfl rfl)
theorem dX5_consent_55 : decode cX5_consent 55 = .ok (.iadd, 1) := dk_96 (dk_at dksX5_consent_2 8 rfl rfl)
theorem dX5_consent_56 : decode cX5_consent 56 = .ok (.istore 5, 2) := dk_54 5 (dk_at dksX5_consent_2 9 rfl rfl)
theorem dX5_consent_58 : decode cX5_consent 58 = .ok (.aload_n 0, 1) := dk_42 (dk_at dksX5_consent_2 11 rfl rfl)
theorem dX5_consent_59 : decode cX5_consent 59 = .ok (.getfield 110, 3) := dk_180 0 110 (dk_at dksX5_consent_2 12 rfl rfl)
theorem dX5_consent_62 : decode cX5_consent 62 = .ok (.iload 5, 2) := dk_21 5 (dk_at dksX5_consent_2 15 rfl rfl)
theorem dX5_consent_64 : decode cX5_consent 64 = .ok (.dup2, 1) := dk_92 (dk_at dksX5_consent_2 17 rfl rfl)
theorem dX5_consent_65 : decode cX5_consent 65 = .ok (.iaload, 1) := dk_46 (dk_at dksX5_consent_2 18 rfl rfl)
theorem dX5_consent_66 : decode cX5_consent 66 = .ok (.iload_n 3, 1) := dk_29 (dk_at dksX5_consent_2 19 rfl rfl)
theorem dX5_consent_67 : decode cX5_consent 67 = .ok (.ior, 1) := dk_128 (dk_at dksX5_consent_2 20 rfl rfl)
theorem dX5_consent_68 : decode cX5_consent 68 = .ok (.iastore, 1) := dk_79 (dk_at dksX5_consent_2 21 rfl rfl)
theorem dX5_consent_69 : decode cX5_consent 69 = .ok (.aload_n 0, 1) := dk_42 (dk_at dksX5_consent_2 22 rfl rfl)
theorem dX5_consent_70 : decode cX5_consent 70 = .ok (.getfield 110, 3) := dk_180 0 110 (dk_at dksX5_consent_3 0 rfl rfl)
theorem dX5_consent_73 : decode cX5_consent 73 = .ok (.iload 5, 2) := dk_21 5 (dk_at dksX5_consent_3 3 rfl rfl)
theorem dX5_consent_75 : decode cX5_consent 75 = .ok (.iaload, 1) := dk_46 (dk_at dksX5_consent_3 5 rfl rfl)
theorem dX5_consent_76 : decode cX5_consent 76 = .ok (.ireturn, 1) := dk_172 (dk_at dksX5_consent_3 6 rfl rfl)
abbrev cX5_isService : ByteArray := prog_14_method_9_code
def yX5_isService : MethodName := ⟨RX5, "isService", "(I)Z"⟩
def dkwX5_isService_0 : List UInt8 := [26, 3, 6, 184, 0, 228, 172]
abbrev dktX5_isService_0 : List UInt8 := dkwX5_isService_0 ++ []
theorem dksX5_isService_0 : cX5_isService.data.toList.drop 0 = dktX5_isService_0 := by decide +kernel
theorem dX5_isService_0 : decode cX5_isService 0 = .ok (.iload_n 0, 1) := dk_26 (dk_at dksX5_isService_0 0 rfl rfl)
theorem dX5_isService_1 : decode cX5_isService 1 = .ok (.iconst 0, 1) := dk_3 (dk_at dksX5_isService_0 1 rfl rfl)
theorem dX5_isService_2 : decode cX5_isService 2 = .ok (.iconst 3, 1) := dk_6 (dk_at dksX5_isService_0 2 rfl rfl)
theorem dX5_isService_3 : decode cX5_isService 3 = .ok (.invokestatic 228, 3) := dk_184 0 228 (dk_at dksX5_isService_0 3 rfl rfl)
theorem dX5_isService_6 : decode cX5_isService 6 = .ok (.ireturn, 1) := dk_172 (dk_at dksX5_isService_0 6 rfl rfl)
abbrev cX5_withdraw : ByteArray := prog_14_method_66_code
def yX5_withdraw : MethodName := ⟨RX5, "withdraw", "(II)I"⟩
def dkwX5_withdraw_5 : List UInt8 := [62, 21, 5, 153, 0, 9, 42, 21, 4, 182, 1, 7, 132, 4, 1, 167, 255, 166, 29, 172]
abbrev dktX5_withdraw_5 : List UInt8 := dkwX5_withdraw_5 ++ []
def dkwX5_withdraw_4 : List UInt8 := [46, 28, 160, 0, 7, 4, 167, 0, 4, 3, 54, 5, 29, 21, 5, 153, 0, 7, 4, 167, 0, 4, 3, 96]
abbrev dktX5_withdraw_4 : List UInt8 := dkwX5_withdraw_4 ++ dktX5_withdraw_5
def dkwX5_withdraw_3 : List UInt8 := [42, 180, 0, 134, 21, 4, 46, 46, 46, 27, 160, 0, 23, 42, 180, 0, 119, 42, 180, 0, 134, 21, 4, 46]
abbrev dktX5_withdraw_3 : List UInt8 := dkwX5_withdraw_3 ++ dktX5_withdraw_4
def dkwX5_withdraw_2 : List UInt8 := [180, 0, 238, 162, 0, 87, 42, 180, 0, 146, 21, 4, 51, 153, 0, 44, 42, 180, 0, 92, 42, 180, 0, 116]
abbrev dktX5_withdraw_2 : List UInt8 := dkwX5_withdraw_2 ++ dktX5_withdraw_3
def dkwX5_withdraw_1 : List UInt8 := [154, 0, 5, 3, 172, 42, 180, 0, 110, 7, 27, 104, 28, 96, 3, 79, 3, 62, 3, 54, 4, 21, 4, 42]
abbrev dktX5_withdraw_1 : List UInt8 := dkwX5_withdraw_1 ++ dktX5_withdraw_2
def dkwX5_withdraw_0 : List UInt8 := [42, 27, 184, 1, 28, 153, 0, 14, 28, 184, 1, 102, 153, 0, 7, 4, 167, 0, 4, 3, 182, 0, 251]
abbrev dktX5_withdraw_0 : List UInt8 := dkwX5_withdraw_0 ++ dktX5_withdraw_1
theorem dksX5_withdraw_0 : cX5_withdraw.data.toList.drop 0 = dktX5_withdraw_0 := by decide +kernel
theorem dksX5_withdraw_1 : cX5_withdraw.data.toList.drop 23 = dktX5_withdraw_1 := dk_seg dksX5_withdraw_0 23 rfl rfl
theorem dksX5_withdraw_2 : cX5_withdraw.data.toList.drop 47 = dktX5_withdraw_2 := dk_seg dksX5_withdraw_1 24 rfl rfl
theorem dksX5_withdraw_3 : cX5_withdraw.data.toList.drop 71 = dktX5_withdraw_3 := dk_seg dksX5_withdraw_2 24 rfl rfl
theorem dksX5_withdraw_4 : cX5_withdraw.data.toList.drop 95 = dktX5_withdraw_4 := dk_seg dksX5_withdraw_3 24 rfl rfl
theorem dksX5_withdraw_5 : cX5_withdraw.data.toList.drop 119 = dktX5_withdraw_5 := dk_seg dksX5_withdraw_4 24 rfl rfl
theorem dX5_withdraw_0 : decode cX5_withdraw 0 = .ok (.aload_n 0, 1) := dk_42 (dk_at dksX5_withdraw_0 0 rfl rfl)
theorem dX5_withdraw_1 : decode cX5_withdraw 1 = .ok (.iload_n 1, 1) := dk_27 (dk_at dksX5_withdraw_0 1 rfl rfl)
theorem dX5_withdraw_2 : decode cX5_withdraw 2 = .ok (.invokestatic 284, 3) := dk_184 1 28 (dk_at dksX5_withdraw_0 2 rfl rfl)
theorem dX5_withdraw_5 : decode cX5_withdraw 5 = .ok (.ifCond .eq 14, 3) := dk_153 0 14 (dk_at dksX5_withdraw_0 5 rfl rfl)
theorem dX5_withdraw_8 : decode cX5_withdraw 8 = .ok (.iload_n 2, 1) := dk_28 (dk_at dksX5_withdraw_0 8 rfl rfl)
theorem dX5_withdraw_9 : decode cX5_withdraw 9 = .ok (.invokestatic 358, 3) := dk_184 1 102 (dk_at dksX5_withdraw_0 9 rfl rfl)
theorem dX5_withdraw_12 : decode cX5_withdraw 12 = .ok (.ifCond .eq 7, 3) := dk_153 0 7 (dk_at dksX5_withdraw_0 12 rfl rfl)
theorem dX5_withdraw_15 : decode cX5_withdraw 15 = .ok (.iconst 1, 1) := dk_4 (dk_at dksX5_withdraw_0 15 rfl rfl)
theorem dX5_withdraw_16 : decode cX5_withdraw 16 = .ok (.goto 4, 3) := dk_167 0 4 (dk_at dksX5_withdraw_0 16 rfl rfl)
theorem dX5_withdraw_19 : decode cX5_withdraw 19 = .ok (.iconst 0, 1) := dk_3 (dk_at dksX5_withdraw_0 19 rfl rfl)
theorem dX5_withdraw_20 : decode cX5_withdraw 20 = .ok (.invokevirtual 251, 3) := dk_182 0 251 (dk_at dksX5_withdraw_0 20 rfl rfl)
theorem dX5_withdraw_23 : decode cX5_withdraw 23 = .ok (.ifCond .ne 5, 3) := dk_154 0 5 (dk_at dksX5_withdraw_1 0 rfl rfl)
theorem dX5_withdraw_26 : decode cX5_withdraw 26 = .ok (.iconst 0, 1) := dk_3 (dk_at dksX5_withdraw_1 3 rfl rfl)
theorem dX5_withdraw_27 : decode cX5_withdraw 27 = .ok (.ireturn, 1) := dk_172 (dk_at dksX5_withdraw_1 4 rfl rfl)
theorem dX5_withdraw_28 : decode cX5_withdraw 28 = .ok (.aload_n 0, 1) := dk_42 (dk_at dksX5_withdraw_1 5 rfl rfl)
theorem dX5_withdraw_29 : decode cX5_withdraw 29 = .ok (.getfield 110, 3) := dk_180 0 110 (dk_at dksX5_withdraw_1 6 rfl rfl)
theorem dX5_withdraw_32 : decode cX5_withdraw 32 = .ok (.iconst 4, 1) := dk_7 (dk_at dksX5_withdraw_1 9 rfl rfl)
theorem dX5_withdraw_33 : decode cX5_withdraw 33 = .ok (.iload_n 1, 1) := dk_27 (dk_at dksX5_withdraw_1 10 rfl rfl)
theorem dX5_withdraw_34 : decode cX5_withdraw 34 = .ok (.imul, 1) := dk_104 (dk_at dksX5_withdraw_1 11 rfl rfl)
theorem dX5_withdraw_35 : decode cX5_withdraw 35 = .ok (.iload_n 2, 1) := dk_28 (dk_at dksX5_withdraw_1 12 rfl rfl)
theorem dX5_withdraw_36 : decode cX5_withdraw 36 = .ok (.iadd, 1) := dk_96 (dk_at dksX5_withdraw_1 13 rfl rfl)
theorem dX5_withdraw_37 : decode cX5_withdraw 37 = .ok (.iconst 0, 1) := dk_3 (dk_at dksX5_withdraw_1 14 rfl rfl)
theorem dX5_withdraw_38 : decode cX5_withdraw 38 = .ok (.iastore, 1) := dk_79 (dk_at dksX5_withdraw_1 15 rfl rfl)
theorem dX5_withdraw_39 : decode cX5_withdraw 39 = .ok (.iconst 0, 1) := dk_3 (dk_at dksX5_withdraw_1 16 rfl rfl)
theorem dX5_withdraw_40 : decode cX5_withdraw 40 = .ok (.istore_n 3, 1) := dk_62 (dk_at dksX5_withdraw_1 17 rfl rfl)
theorem dX5_withdraw_41 : decode cX5_withdraw 41 = .ok (.iconst 0, 1) := dk_3 (dk_at dksX5_withdraw_1 18 rfl rfl)
theorem dX5_withdraw_42 : decode cX5_withdraw 42 = .ok (.istore 4, 2) := dk_54 4 (dk_at dksX5_withdraw_1 19 rfl rfl)
theorem dX5_withdraw_44 : decode cX5_withdraw 44 = .ok (.iload 4, 2) := dk_21 4 (dk_at dksX5_withdraw_1 21 rfl rfl)
theorem dX5_withdraw_46 : decode cX5_withdraw 46 = .ok (.aload_n 0, 1) := dk_42 (dk_at dksX5_withdraw_1 23 rfl rfl)
theorem dX5_withdraw_47 : decode cX5_withdraw 47 = .ok (.getfield 238, 3) := dk_180 0 238 (dk_at dksX5_withdraw_2 0 rfl rfl)
theorem dX5_withdraw_50 : decode cX5_withdraw 50 = .ok (.if_icmp .ge 87, 3) := dk_162 0 87 (dk_at dksX5_withdraw_2 3 rfl rfl)
theorem dX5_withdraw_53 : decode cX5_withdraw 53 = .ok (.aload_n 0, 1) := dk_42 (dk_at dksX5_withdraw_2 6 rfl rfl)
theorem dX5_withdraw_54 : decode cX5_withdraw 54 = .ok (.getfield 146, 3) := dk_180 0 146 (dk_at dksX5_withdraw_2 7 rfl rfl)
theorem dX5_withdraw_57 : decode cX5_withdraw 57 = .ok (.iload 4, 2) := dk_21 4 (dk_at dksX5_withdraw_2 10 rfl rfl)
theorem dX5_withdraw_59 : decode cX5_withdraw 59 = .ok (.baload, 1) := dk_51 (dk_at dksX5_withdraw_2 12 rfl rfl)
theorem dX5_withdraw_60 : decode cX5_withdraw 60 = .ok (.ifCond .eq 44, 3) := dk_153 0 44 (dk_at dksX5_withdraw_2 13 rfl rfl)
theorem dX5_withdraw_63 : decode cX5_withdraw 63 = .ok (.aload_n 0, 1) := dk_42 (dk_at dksX5_withdraw_2 16 rfl rfl)
theorem dX5_withdraw_64 : decode cX5_withdraw 64 = .ok (.getfield 92, 3) := dk_180 0 92 (dk_at dksX5_withdraw_2 17 rfl rfl)
theorem dX5_withdraw_67 : decode cX5_withdraw 67 = .ok (.aload_n 0, 1) := dk_42 (dk_at dksX5_withdraw_2 20 rfl rfl)
theorem dX5_withdraw_68 : decode cX5_withdraw 68 = .ok (.getfield 116, 3) := dk_180 0 116 (dk_at dksX5_withdraw_2 21 rfl rfl)
theorem dX5_withdraw_71 : decode cX5_withdraw 71 = .ok (.aload_n 0, 1) := dk_42 (dk_at dksX5_withdraw_3 0 rfl rfl)
theorem dX5_withdraw_72 : decode cX5_withdraw 72 = .ok (.getfield 134, 3) := dk_180 0 134 (dk_at dksX5_withdraw_3 1 rfl rfl)
theorem dX5_withdraw_75 : decode cX5_withdraw 75 = .ok (.iload 4, 2) := dk_21 4 (dk_at dksX5_withdraw_3 4 rfl rfl)
theorem dX5_withdraw_77 : decode cX5_withdraw 77 = .ok (.iaload, 1) := dk_46 (dk_at dksX5_withdraw_3 6 rfl rfl)
theorem dX5_withdraw_78 : decode cX5_withdraw 78 = .ok (.iaload, 1) := dk_46 (dk_at dksX5_withdraw_3 7 rfl rfl)
theorem dX5_withdraw_79 : decode cX5_withdraw 79 = .ok (.iaload, 1) := dk_46 (dk_at dksX5_withdraw_3 8 rfl rfl)
theorem dX5_withdraw_80 : decode cX5_withdraw 80 = .ok (.iload_n 1, 1) := dk_27 (dk_at dksX5_withdraw_3 9 rfl rfl)
theorem dX5_withdraw_81 : decode cX5_withdraw 81 = .ok (.if_icmp .ne 23, 3) := dk_160 0 23 (dk_at dksX5_withdraw_3 10 rfl rfl)
theorem dX5_withdraw_84 : decode cX5_withdraw 84 = .ok (.aload_n 0, 1) := dk_42 (dk_at dksX5_withdraw_3 13 rfl rfl)
theorem dX5_withdraw_85 : decode cX5_withdraw 85 = .ok (.getfield 119, 3) := dk_180 0 119 (dk_at dksX5_withdraw_3 14 rfl rfl)
theorem dX5_withdraw_88 : decode cX5_withdraw 88 = .ok (.aload_n 0, 1) := dk_42 (dk_at dksX5_withdraw_3 17 rfl rfl)
theorem dX5_withdraw_89 : decode cX5_withdraw 89 = .ok (.getfield 134, 3) := dk_180 0 134 (dk_at dksX5_withdraw_3 18 rfl rfl)
theorem dX5_withdraw_92 : decode cX5_withdraw 92 = .ok (.iload 4, 2) := dk_21 4 (dk_at dksX5_withdraw_3 21 rfl rfl)
theorem dX5_withdraw_94 : decode cX5_withdraw 94 = .ok (.iaload, 1) := dk_46 (dk_at dksX5_withdraw_3 23 rfl rfl)
theorem dX5_withdraw_95 : decode cX5_withdraw 95 = .ok (.iaload, 1) := dk_46 (dk_at dksX5_withdraw_4 0 rfl rfl)
theorem dX5_withdraw_96 : decode cX5_withdraw 96 = .ok (.iload_n 2, 1) := dk_28 (dk_at dksX5_withdraw_4 1 rfl rfl)
theorem dX5_withdraw_97 : decode cX5_withdraw 97 = .ok (.if_icmp .ne 7, 3) := dk_160 0 7 (dk_at dksX5_withdraw_4 2 rfl rfl)
theorem dX5_withdraw_100 : decode cX5_withdraw 100 = .ok (.iconst 1, 1) := dk_4 (dk_at dksX5_withdraw_4 5 rfl rfl)
theorem dX5_withdraw_101 : decode cX5_withdraw 101 = .ok (.goto 4, 3) := dk_167 0 4 (dk_at dksX5_withdraw_4 6 rfl rfl)
theorem dX5_withdraw_104 : decode cX5_withdraw 104 = .ok (.iconst 0, 1) := dk_3 (dk_at dksX5_withdraw_4 9 rfl rfl)
theorem dX5_withdraw_105 : decode cX5_withdraw 105 = .ok (.istore 5, 2) := dk_54 5 (dk_at dksX5_withdraw_4 10 rfl rfl)
theorem dX5_withdraw_107 : decode cX5_withdraw 107 = .ok (.iload_n 3, 1) := dk_29 (dk_at dksX5_withdraw_4 12 rfl rfl)
theorem dX5_withdraw_108 : decode cX5_withdraw 108 = .ok (.iload 5, 2) := dk_21 5 (dk_at dksX5_withdraw_4 13 rfl rfl)
theorem dX5_withdraw_110 : decode cX5_withdraw 110 = .ok (.ifCond .eq 7, 3) := dk_153 0 7 (dk_at dksX5_withdraw_4 15 rfl rfl)
theorem dX5_withdraw_113 : decode cX5_withdraw 113 = .ok (.iconst 1, 1) := dk_4 (dk_at dksX5_withdraw_4 18 rfl rfl)
theorem dX5_withdraw_114 : decode cX5_withdraw 114 = .ok (.goto 4, 3) := dk_167 0 4 (dk_at dksX5_withdraw_4 19 rfl rfl)
theorem dX5_withdraw_117 : decode cX5_withdraw 117 = .ok (.iconst 0, 1) := dk_3 (dk_at dksX5_withdraw_4 22 rfl rfl)
theorem dX5_withdraw_118 : decode cX5_withdraw 118 = .ok (.iadd, 1) := dk_96 (dk_at dksX5_withdraw_4 23 rfl rfl)
theorem dX5_withdraw_119 : decode cX5_withdraw 119 = .ok (.istore_n 3, 1) := dk_62 (dk_at dksX5_withdraw_5 0 rfl rfl)
theorem dX5_withdraw_120 : decode cX5_withdraw 120 = .ok (.iload 5, 2) := dk_21 5 (dk_at dksX5_withdraw_5 1 rfl rfl)
theorem dX5_withdraw_122 : decode cX5_withdraw 122 = .ok (.ifCond .eq 9, 3) := dk_153 0 9 (dk_at dksX5_withdraw_5 3 rfl rfl)
theorem dX5_withdraw_125 : decode cX5_withdraw 125 = .ok (.aload_n 0, 1) := dk_42 (dk_at dksX5_withdraw_5 6 rfl rfl)
theorem dX5_withdraw_126 : decode cX5_withdraw 126 = .ok (.iload 4, 2) := dk_21 4 (dk_at dksX5_withdraw_5 7 rfl rfl)
theorem dX5_withdraw_128 : decode cX5_withdraw 128 = .ok (.invokevirtual 263, 3) := dk_182 1 7 (dk_at dksX5_withdraw_5 9 rfl rfl)
theorem dX5_withdraw_131 : decode cX5_withdraw 131 = .ok (.iinc 4 1, 3) := dk_132 4 1 (dk_at dksX5_withdraw_5 12 rfl rfl)
theorem dX5_withdraw_134 : decode cX5_withdraw 134 = .ok (.goto (-90), 3) := dk_167 255 166 (dk_at dksX5_withdraw_5 15 rfl rfl)
theorem dX5_withdraw_137 : decode cX5_withdraw 137 = .ok (.iload_n 3, 1) := dk_29 (dk_at dksX5_withdraw_5 18 rfl rfl)
theorem dX5_withdraw_138 : decode cX5_withdraw 138 = .ok (.ireturn, 1) := dk_172 (dk_at dksX5_withdraw_5 19 rfl rfl)
abbrev cX5_need : ByteArray := prog_14_method_67_code
def yX5_need : MethodName := ⟨RX5, "need", "(II)I"⟩
def dkwX5_need_1 : List UInt8 := [27, 46, 62, 42, 180, 0, 113, 27, 28, 79, 29, 172]
abbrev dktX5_need_1 : List UInt8 := dkwX5_need_1 ++ []
def dkwX5_need_0 : List UInt8 := [42, 27, 184, 1, 102, 28, 3, 16, 6, 184, 0, 228, 182, 1, 18, 154, 0, 5, 3, 172, 42, 180, 0, 113]
abbrev dktX5_need_0 : List UInt8 := dkwX5_need_0 ++ dktX5_need_1
theorem dksX5_need_0 : cX5_need.data.toList.drop 0 = dktX5_need_0 := by decide +kernel
theorem dksX5_need_1 : cX5_need.data.toList.drop 24 = dktX5_need_1 := dk_seg dksX5_need_0 24 rfl rfl
theorem dX5_need_0 : decode cX5_need 0 = .ok (.aload_n 0, 1) := dk_42 (dk_at dksX5_need_0 0 rfl rfl)
theorem dX5_need_1 : decode cX5_need 1 = .ok (.iload_n 1, 1) := dk_27 (dk_at dksX5_need_0 1 rfl rfl)
theorem dX5_need_2 : decode cX5_need 2 = .ok (.invokestatic 358, 3) := dk_184 1 102 (dk_at dksX5_need_0 2 rfl rfl)
theorem dX5_need_5 : decode cX5_need 5 = .ok (.iload_n 2, 1) := dk_28 (dk_at dksX5_need_0 5 rfl rfl)
theorem dX5_need_6 : decode cX5_need 6 = .ok (.iconst 0, 1) := dk_3 (dk_at dksX5_need_0 6 rfl rfl)
theorem dX5_need_7 : decode cX5_need 7 = .ok (.bipush 6, 2) := dk_16 6 (dk_at dksX5_need_0 7 rfl rfl)
theorem dX5_need_9 : decode cX5_need 9 = .ok (.invokestatic 228, 3) := dk_184 0 228 (dk_at dksX5_need_0 9 rfl rfl)
theorem dX5_need_12 : decode cX5_need 12 = .ok (.invokevirtual 274, 3) := dk_182 1 18 (dk_at dksX5_need_0 12 rfl rfl)
theorem dX5_need_15 : decode cX5_need 15 = .ok (.ifCond .ne 5, 3) := dk_154 0 5 (dk_at dksX5_need_0 15 rfl rfl)
theorem dX5_need_18 : decode cX5_need 18 = .ok (.iconst 0, 1) := dk_3 (dk_at dksX5_need_0 18 rfl rfl)
theorem dX5_need_19 : decode cX5_need 19 = .ok (.ireturn, 1) := dk_172 (dk_at dksX5_need_0 19 rfl rfl)
theorem dX5_need_20 : decode cX5_need 20 = .ok (.aload_n 0, 1) := dk_42 (dk_at dksX5_need_0 20 rfl rfl)
theorem dX5_need_21 : decode cX5_need 21 = .ok (.getfield 113, 3) := dk_180 0 113 (dk_at dksX5_need_0 21 rfl rfl)
theorem dX5_need_24 : decode cX5_need 24 = .ok (.iload_n 1, 1) := dk_27 (dk_at dksX5_need_1 0 rfl rfl)
theorem dX5_need_25 : decode cX5_need 25 = .ok (.iaload, 1) := dk_46 (dk_at dksX5_need_1 1 rfl rfl)
theorem dX5_need_26 : decode cX5_need 26 = .ok (.istore_n 3, 1) := dk_62 (dk_at dksX5_need_1 2 rfl rfl)
theorem dX5_need_27 : decode cX5_need 27 = .ok (.aload_n 0, 1) := dk_42 (dk_at dksX5_need_1 3 rfl rfl)
theorem dX5_need_28 : decode cX5_need 28 = .ok (.getfield 113, 3) := dk_180 0 113 (dk_at dksX5_need_1 4 rfl rfl)
theorem dX5_need_31 : decode cX5_need 31 = .ok (.iload_n 1, 1) := dk_27 (dk_at dksX5_need_1 7 rfl rfl)
theorem dX5_need_32 : decode cX5_need 32 = .ok (.iload_n 2, 1) := dk_28 (dk_at dksX5_need_1 8 rfl rfl)
theorem dX5_need_33 : decode cX5_need 33 = .ok (.iastore, 1) := dk_79 (dk_at dksX5_need_1 9 rfl rfl)
theorem dX5_need_34 : decode cX5_need 34 = .ok (.iload_n 3, 1) := dk_29 (dk_at dksX5_need_1 10 rfl rfl)
theorem dX5_need_35 : decode cX5_need 35 = .ok (.ireturn, 1) := dk_172 (dk_at dksX5_need_1 11 rfl rfl)
abbrev cX5_authorize : ByteArray := prog_14_method_68_code
def yX5_authorize : MethodName := ⟨RX5, "authorize", "(IIII)I"⟩
def dkwX5_authorize_9 : List UInt8 := [180, 1, 105, 4, 96, 181, 1, 105, 42, 180, 1, 105, 4, 100, 172]
abbrev dktX5_authorize_9 : List UInt8 := dkwX5_authorize_9 ++ []
def dkwX5_authorize_8 : List UInt8 := [180, 0, 128, 42, 180, 1, 105, 42, 180, 0, 247, 79, 42, 180, 0, 131, 42, 180, 1, 105, 2, 79, 42, 89]
abbrev dktX5_authorize_8 : List UInt8 := dkwX5_authorize_8 ++ dktX5_authorize_9
def dkwX5_authorize_7 : List UInt8 := [28, 79, 42, 180, 0, 122, 42, 180, 1, 105, 29, 79, 42, 180, 0, 125, 42, 180, 1, 105, 21, 4, 79, 42]
abbrev dktX5_authorize_7 : List UInt8 := dkwX5_authorize_7 ++ dktX5_authorize_8
def dkwX5_authorize_6 : List UInt8 := [162, 0, 6, 16, 254, 172, 42, 180, 0, 116, 42, 180, 1, 105, 27, 79, 42, 180, 0, 119, 42, 180, 1, 105]
abbrev dktX5_authorize_6 : List UInt8 := dkwX5_authorize_6 ++ dktX5_authorize_7
def dkwX5_authorize_5 : List UInt8 := [21, 6, 2, 130, 126, 153, 0, 6, 16, 253, 172, 42, 27, 182, 1, 99, 42, 180, 0, 113, 29, 46]
abbrev dktX5_authorize_5 : List UInt8 := dkwX5_authorize_5 ++ dktX5_authorize_6
def dkwX5_authorize_4 : List UInt8 := [180, 0, 92, 27, 46, 104, 28, 96, 46, 42, 180, 0, 110, 16, 24, 28, 96, 46, 128, 54, 6, 21, 4]
abbrev dktX5_authorize_4 : List UInt8 := dkwX5_authorize_4 ++ dktX5_authorize_5
def dkwX5_authorize_3 : List UInt8 := [182, 1, 88, 154, 0, 5, 3, 172, 42, 180, 0, 98, 27, 42, 180, 0, 247, 79, 42, 180, 0, 110, 7, 42]
abbrev dktX5_authorize_3 : List UInt8 := dkwX5_authorize_3 ++ dktX5_authorize_4
def dkwX5_authorize_2 : List UInt8 := [180, 0, 104, 27, 51, 153, 0, 16, 42, 180, 1, 105, 16, 60, 162, 0, 7, 4, 167, 0, 4, 3]
abbrev dktX5_authorize_2 : List UInt8 := dkwX5_authorize_2 ++ dktX5_authorize_3
def dkwX5_authorize_1 : List UInt8 := [167, 0, 4, 3, 54, 5, 42, 21, 5, 21, 4, 4, 16, 15, 184, 0, 228, 21, 5, 153, 0, 25, 42]
abbrev dktX5_authorize_1 : List UInt8 := dkwX5_authorize_1 ++ dktX5_authorize_2
def dkwX5_authorize_0 : List UInt8 := [42, 27, 182, 1, 96, 153, 0, 21, 28, 184, 1, 102, 153, 0, 14, 29, 184, 1, 102, 153, 0, 7, 4]
abbrev dktX5_authorize_0 : List UInt8 := dkwX5_authorize_0 ++ dktX5_authorize_1
theorem dksX5_authorize_0 : cX5_authorize.data.toList.drop 0 = dktX5_authorize_0 := by decide +kernel
theorem dksX5_authorize_1 : cX5_authorize.data.toList.drop 23 = dktX5_authorize_1 := dk_seg dksX5_authorize_0 23 rfl rfl
theorem dksX5_authorize_2 : cX5_authorize.data.toList.drop 46 = dktX5_authorize_2 := dk_seg dksX5_authorize_1 23 rfl rfl
theorem dksX5_authorize_3 : cX5_authorize.data.toList.drop 68 = dktX5_authorize_3 := dk_seg dksX5_authorize_2 22 rfl rfl
theorem dksX5_authorize_4 : cX5_authorize.data.toList.drop 92 = dktX5_authorize_4 := dk_seg dksX5_authorize_3 24 rfl rfl
theorem dksX5_authorize_5 : cX5_authorize.data.toList.drop 115 = dktX5_authorize_5 := dk_seg dksX5_authorize_4 23 rfl rfl
theorem dksX5_authorize_6 : cX5_authorize.data.toList.drop 137 = dktX5_authorize_6 := dk_seg dksX5_authorize_5 22 rfl rfl
theorem dksX5_authorize_7 : cX5_authorize.data.toList.drop 161 = dktX5_authorize_7 := dk_seg dksX5_authorize_6 24 rfl rfl
theorem dksX5_authorize_8 : cX5_authorize.data.toList.drop 185 = dktX5_authorize_8 := dk_seg dksX5_authorize_7 24 rfl rfl
theorem dksX5_authorize_9 : cX5_authorize.data.toList.drop 209 = dktX5_authorize_9 := dk_seg dksX5_authorize_8 24 rfl rfl
theorem dX5_authorize_0 : decode cX5_authorize 0 = .ok (.aload_n 0, 1) := dk_42 (dk_at dksX5_authorize_0 0 rfl rfl)
theorem dX5_authorize_1 : decode cX5_authorize 1 = .ok (.iload_n 1, 1) := dk_27 (dk_at dksX5_authorize_0 1 rfl rfl)
theorem dX5_authorize_2 : decode cX5_authorize 2 = .ok (.invokevirtual 352, 3) := dk_182 1 96 (dk_at dksX5_authorize_0 2 rfl rfl)
theorem dX5_authorize_5 : decode cX5_authorize 5 = .ok (.ifCond .eq 21, 3) := dk_153 0 21 (dk_at dksX5_authorize_0 5 rfl rfl)
theorem dX5_authorize_8 : decode cX5_authorize 8 = .ok (.iload_n 2, 1) := dk_28 (dk_at dksX5_authorize_0 8 rfl rfl)
theorem dX5_authorize_9 : decode cX5_authorize 9 = .ok (.invokestatic 358, 3) := dk_184 1 102 (dk_at dksX5_authorize_0 9 rfl rfl)
theorem dX5_authorize_12 : decode cX5_authorize 12 = .ok (.ifCond .eq 14, 3) := dk_153 0 14 (dk_at dksX5_authorize_0 12 rfl rfl)
theorem dX5_authorize_15 : decode cX5_authorize 15 = .ok (.iload_n 3, 1) := dk_29 (dk_at dksX5_authorize_0 15 rfl rfl)
theorem dX5_authorize_16 : decode cX5_authorize 16 = .ok (.invokestatic 358, 3) := dk_184 1 102 (dk_at dksX5_authorize_0 16 rfl rfl)
theorem dX5_authorize_19 : decode cX5_authorize 19 = .ok (.ifCond .eq 7, 3) := dk_153 0 7 (dk_at dksX5_authorize_0 19 rfl rfl)
theorem dX5_authorize_22 : decode cX5_authorize 22 = .ok (.iconst 1, 1) := dk_4 (dk_at dksX5_authorize_0 22 rfl rfl)
theorem dX5_authorize_23 : decode cX5_authorize 23 = .ok (.goto 4, 3) := dk_167 0 4 (dk_at dksX5_authorize_1 0 rfl rfl)
theorem dX5_authorize_26 : decode cX5_authorize 26 = .ok (.iconst 0, 1) := dk_3 (dk_at dksX5_authorize_1 3 rfl rfl)
theorem dX5_authorize_27 : decode cX5_authorize 27 = .ok (.istore 5, 2) := dk_54 5 (dk_at dksX5_authorize_1 4 rfl rfl)
theorem dX5_authorize_29 : decode cX5_authorize 29 = .ok (.aload_n 0, 1) := dk_42 (dk_at dksX5_authorize_1 6 rfl rfl)
theorem dX5_authorize_30 : decode cX5_authorize 30 = .ok (.iload 5, 2) := dk_21 5 (dk_at dksX5_authorize_1 7 rfl rfl)
theorem dX5_authorize_32 : decode cX5_authorize 32 = .ok (.iload 4, 2) := dk_21 4 (dk_at dksX5_authorize_1 9 rfl rfl)
theorem dX5_authorize_34 : decode cX5_authorize 34 = .ok (.iconst 1, 1) := dk_4 (dk_at dksX5_authorize_1 11 rfl rfl)
theorem dX5_authorize_35 : decode cX5_authorize 35 = .ok (.bipush 15, 2) := dk_16 15 (dk_at dksX5_authorize_1 12 rfl rfl)
theorem dX5_authorize_37 : decode cX5_authorize 37 = .ok (.invokestatic 228, 3) := dk_184 0 228 (dk_at dksX5_authorize_1 14 rfl rfl)
theorem dX5_authorize_40 : decode cX5_authorize 40 = .ok (.iload 5, 2) := dk_21 5 (dk_at dksX5_authorize_1 17 rfl rfl)
theorem dX5_authorize_42 : decode cX5_authorize 42 = .ok (.ifCond .eq 25, 3) := dk_153 0 25 (dk_at dksX5_authorize_1 19 rfl rfl)
theorem dX5_authorize_45 : decode cX5_authorize 45 = .ok (.aload_n 0, 1) := dk_42 (dk_at dksX5_authorize_1 22 rfl rfl)
theorem dX5_authorize_46 : decode cX5_authorize 46 = .ok (.getfield 104, 3) := dk_180 0 104 (dk_at dksX5_authorize_2 0 rfl rfl)
theorem dX5_authorize_49 : decode cX5_authorize 49 = .ok (.iload_n 1, 1) := dk_27 (dk_at dksX5_authorize_2 3 rfl rfl)
theorem dX5_authorize_50 : decode cX5_authorize 50 = .ok (.baload, 1) := dk_51 (dk_at dksX5_authorize_2 4 rfl rfl)
theorem dX5_authorize_51 : decode cX5_authorize 51 = .ok (.ifCond .eq 16, 3) := dk_153 0 16 (dk_at dksX5_authorize_2 5 rfl rfl)
theorem dX5_authorize_54 : decode cX5_authorize 54 = .ok (.aload_n 0, 1) := dk_42 (dk_at dksX5_authorize_2 8 rfl rfl)
theorem dX5_authorize_55 : decode cX5_authorize 55 = .ok (.getfield 361, 3) := dk_180 1 105 (dk_at dksX5_authorize_2 9 rfl rfl)
theorem dX5_authorize_58 : decode cX5_authorize 58 = .ok (.bipush 60, 2) := dk_16 60 (dk_at dksX5_authorize_2 12 rfl rfl)
theorem dX5_authorize_60 : decode cX5_authorize 60 = .ok (.if_icmp .ge 7, 3) := dk_162 0 7 (dk_at dksX5_authorize_2 14 rfl rfl)
theorem dX5_authorize_63 : decode cX5_authorize 63 = .ok (.iconst 1, 1) := dk_4 (dk_at dksX5_authorize_2 17 rfl rfl)
theorem dX5_authorize_64 : decode cX5_authorize 64 = .ok (.goto 4, 3) := dk_167 0 4 (dk_at dksX5_authorize_2 18 rfl rfl)
theorem dX5_authorize_67 : decode cX5_authorize 67 = .ok (.iconst 0, 1) := dk_3 (dk_at dksX5_authorize_2 21 rfl rfl)
theorem dX5_authorize_68 : decode cX5_authorize 68 = .ok (.invokevirtual 344, 3) := dk_182 1 88 (dk_at dksX5_authorize_3 0 rfl rfl)
theorem dX5_authorize_71 : decode cX5_authorize 71 = .ok (.ifCond .ne 5, 3) := dk_154 0 5 (dk_at dksX5_authorize_3 3 rfl rfl)
theorem dX5_authorize_74 : decode cX5_authorize 74 = .ok (.iconst 0, 1) := dk_3 (dk_at dksX5_authorize_3 6 rfl rfl)
theorem dX5_authorize_75 : decode cX5_authorize 75 = .ok (.ireturn, 1) := dk_172 (dk_at dksX5_authorize_3 7 rfl rfl)
theorem dX5_authorize_76 : decode cX5_authorize 76 = .ok (.aload_n 0, 1) := dk_42 (dk_at dksX5_authorize_3 8 rfl rfl)
theorem dX5_authorize_77 : decode cX5_authorize 77 = .ok (.getfield 98, 3) := dk_180 0 98 (dk_at dksX5_authorize_3 9 rfl rfl)
theorem dX5_authorize_80 : decode cX5_authorize 80 = .ok (.iload_n 1, 1) := dk_27 (dk_at dksX5_authorize_3 12 rfl rfl)
theorem dX5_authorize_81 : decode cX5_authorize 81 = .ok (.aload_n 0, 1) := dk_42 (dk_at dksX5_authorize_3 13 rfl rfl)
theorem dX5_authorize_82 : decode cX5_authorize 82 = .ok (.getfield 247, 3) := dk_180 0 247 (dk_at dksX5_authorize_3 14 rfl rfl)
theorem dX5_authorize_85 : decode cX5_authorize 85 = .ok (.iastore, 1) := dk_79 (dk_at dksX5_authorize_3 17 rfl rfl)
theorem dX5_authorize_86 : decode cX5_authorize 86 = .ok (.aload_n 0, 1) := dk_42 (dk_at dksX5_authorize_3 18 rfl rfl)
theorem dX5_authorize_87 : decode cX5_authorize 87 = .ok (.getfield 110, 3) := dk_180 0 110 (dk_at dksX5_authorize_3 19 rfl rfl)
theorem dX5_authorize_90 : decode cX5_authorize 90 = .ok (.iconst 4, 1) := dk_7 (dk_at dksX5_authorize_3 22 rfl rfl)
theorem dX5_authorize_91 : decode cX5_authorize 91 = .ok (.aload_n 0, 1) := dk_42 (dk_at dksX5_authorize_3 23 rfl rfl)
theorem dX5_authorize_92 : decode cX5_authorize 92 = .ok (.getfield 92, 3) := dk_180 0 92 (dk_at dksX5_authorize_4 0 rfl rfl)
theorem dX5_authorize_95 : decode cX5_authorize 95 = .ok (.iload_n 1, 1) := dk_27 (dk_at dksX5_authorize_4 3 rfl rfl)
theorem dX5_authorize_96 : decode cX5_authorize 96 = .ok (.iaload, 1) := dk_46 (dk_at dksX5_authorize_4 4 rfl rfl)
theorem dX5_authorize_97 : decode cX5_authorize 97 = .ok (.imul, 1) := dk_104 (dk_at dksX5_authorize_4 5 rfl rfl)
theorem dX5_authorize_98 : decode cX5_authorize 98 = .ok (.iload_n 2, 1) := dk_28 (dk_at dksX5_authorize_4 6 rfl rfl)
theorem dX5_authorize_99 : decode cX5_authorize 99 = .ok (.iadd, 1) := dk_96 (dk_at dksX5_authorize_4 7 rfl rfl)
theorem dX5_authorize_100 : decode cX5_authorize 100 = .ok (.iaload, 1) := dk_46 (dk_at dksX5_authorize_4 8 rfl rfl)
theorem dX5_authorize_101 : decode cX5_authorize 101 = .ok (.aload_n 0, 1) := dk_42 (dk_at dksX5_authorize_4 9 rfl rfl)
theorem dX5_authorize_102 : decode cX5_authorize 102 = .ok (.getfield 110, 3) := dk_180 0 110 (dk_at dksX5_authorize_4 10 rfl rfl)
theorem dX5_authorize_105 : decode cX5_authorize 105 = .ok (.bipush 24, 2) := dk_16 24 (dk_at dksX5_authorize_4 13 rfl rfl)
theorem dX5_authorize_107 : decode cX5_authorize 107 = .ok (.iload_n 2, 1) := dk_28 (dk_at dksX5_authorize_4 15 rfl rfl)
theorem dX5_authorize_108 : decode cX5_authorize 108 = .ok (.iadd, 1) := dk_96 (dk_at dksX5_authorize_4 16 rfl rfl)
theorem dX5_authorize_109 : decode cX5_authorize 109 = .ok (.iaload, 1) := dk_46 (dk_at dksX5_authorize_4 17 rfl rfl)
theorem dX5_authorize_110 : decode cX5_authorize 110 = .ok (.ior, 1) := dk_128 (dk_at dksX5_authorize_4 18 rfl rfl)
theorem dX5_authorize_111 : decode cX5_authorize 111 = .ok (.istore 6, 2) := dk_54 6 (dk_at dksX5_authorize_4 19 rfl rfl)
theorem dX5_authorize_113 : decode cX5_authorize 113 = .ok (.iload 4, 2) := dk_21 4 (dk_at dksX5_authorize_4 21 rfl rfl)
theorem dX5_authorize_115 : decode cX5_authorize 115 = .ok (.iload 6, 2) := dk_21 6 (dk_at dksX5_authorize_5 0 rfl rfl)
theorem dX5_authorize_117 : decode cX5_authorize 117 = .ok (.iconst (-1), 1) := dk_2 (dk_at dksX5_authorize_5 2 rfl rfl)
theorem dX5_authorize_118 : decode cX5_authorize 118 = .ok (.ixor, 1) := dk_130 (dk_at dksX5_authorize_5 3 rfl rfl)
theorem dX5_authorize_119 : decode cX5_authorize 119 = .ok (.iand, 1) := dk_126 (dk_at dksX5_authorize_5 4 rfl rfl)
theorem dX5_authorize_120 : decode cX5_authorize 120 = .ok (.ifCond .eq 6, 3) := dk_153 0 6 (dk_at dksX5_authorize_5 5 rfl rfl)
theorem dX5_authorize_123 : decode cX5_authorize 123 = .ok (.bipush (-3), 2) := dk_16 253 (dk_at dksX5_authorize_5 8 rfl rfl)
theorem dX5_authorize_125 : decode cX5_authorize 125 = .ok (.ireturn, 1) := dk_172 (dk_at dksX5_authorize_5 10 rfl rfl)
theorem dX5_authorize_126 : decode cX5_authorize 126 = .ok (.aload_n 0, 1) := dk_42 (dk_at dksX5_authorize_5 11 rfl rfl)
theorem dX5_authorize_127 : decode cX5_authorize 127 = .ok (.iload_n 1, 1) := dk_27 (dk_at dksX5_authorize_5 12 rfl rfl)
theorem dX5_authorize_128 : decode cX5_authorize 128 = .ok (.invokevirtual 355, 3) := dk_182 1 99 (dk_at dksX5_authorize_5 13 rfl rfl)
theorem dX5_authorize_131 : decode cX5_authorize 131 = .ok (.aload_n 0, 1) := dk_42 (dk_at dksX5_authorize_5 16 rfl rfl)
theorem dX5_authorize_132 : decode cX5_authorize 132 = .ok (.getfield 113, 3) := dk_180 0 113 (dk_at dksX5_authorize_5 17 rfl rfl)
theorem dX5_authorize_135 : decode cX5_authorize 135 = .ok (.iload_n 3, 1) := dk_29 (dk_at dksX5_authorize_5 20 rfl rfl)
theorem dX5_authorize_136 : decode cX5_authorize 136 = .ok (.iaload, 1) := dk_46 (dk_at dksX5_authorize_5 21 rfl rfl)
theorem dX5_authorize_137 : decode cX5_authorize 137 = .ok (.if_icmp .ge 6, 3) := dk_162 0 6 (dk_at dksX5_authorize_6 0 rfl rfl)
theorem dX5_authorize_140 : decode cX5_authorize 140 = .ok (.bipush (-2), 2) := dk_16 254 (dk_at dksX5_authorize_6 3 rfl rfl)
theorem dX5_authorize_142 : decode cX5_authorize 142 = .ok (.ireturn, 1) := dk_172 (dk_at dksX5_authorize_6 5 rfl rfl)
theorem dX5_authorize_143 : decode cX5_authorize 143 = .ok (.aload_n 0, 1) := dk_42 (dk_at dksX5_authorize_6 6 rfl rfl)
theorem dX5_authorize_144 : decode cX5_authorize 144 = .ok (.getfield 116, 3) := dk_180 0 116 (dk_at dksX5_authorize_6 7 rfl rfl)
theorem dX5_authorize_147 : decode cX5_authorize 147 = .ok (.aload_n 0, 1) := dk_42 (dk_at dksX5_authorize_6 10 rfl rfl)
theorem dX5_authorize_148 : decode cX5_authorize 148 = .ok (.getfield 361, 3) := dk_180 1 105 (dk_at dksX5_authorize_6 11 rfl rfl)
theorem dX5_authorize_151 : decode cX5_authorize 151 = .ok (.iload_n 1, 1) := dk_27 (dk_at dksX5_authorize_6 14 rfl rfl)
theorem dX5_authorize_152 : decode cX5_authorize 152 = .ok (.iastore, 1) := dk_79 (dk_at dksX5_authorize_6 15 rfl rfl)
theorem dX5_authorize_153 : decode cX5_authorize 153 = .ok (.aload_n 0, 1) := dk_42 (dk_at dksX5_authorize_6 16 rfl rfl)
theorem dX5_authorize_154 : decode cX5_authorize 154 = .ok (.getfield 119, 3) := dk_180 0 119 (dk_at dksX5_authorize_6 17 rfl rfl)
theorem dX5_authorize_157 : decode cX5_authorize 157 = .ok (.aload_n 0, 1) := dk_42 (dk_at dksX5_authorize_6 20 rfl rfl)
theorem dX5_authorize_158 : decode cX5_authorize 158 = .ok (.getfield 361, 3) := dk_180 1 105 (dk_at dksX5_authorize_6 21 rfl rfl)
theorem dX5_authorize_161 : decode cX5_authorize 161 = .ok (.iload_n 2, 1) := dk_28 (dk_at dksX5_authorize_7 0 rfl rfl)
theorem dX5_authorize_162 : decode cX5_authorize 162 = .ok (.iastore, 1) := dk_79 (dk_at dksX5_authorize_7 1 rfl rfl)
theorem dX5_authorize_163 : decode cX5_authorize 163 = .ok (.aload_n 0, 1) := dk_42 (dk_at dksX5_authorize_7 2 rfl rfl)
theorem dX5_authorize_164 : decode cX5_authorize 164 = .ok (.getfield 122, 3) := dk_180 0 122 (dk_at dksX5_authorize_7 3 rfl rfl)
theorem dX5_authorize_167 : decode cX5_authorize 167 = .ok (.aload_n 0, 1) := dk_42 (dk_at dksX5_authorize_7 6 rfl rfl)
theorem dX5_authorize_168 : decode cX5_authorize 168 = .ok (.getfield 361, 3) := dk_180 1 105 (dk_at dksX5_authorize_7 7 rfl rfl)
theorem dX5_authorize_171 : decode cX5_authorize 171 = .ok (.iload_n 3, 1) := dk_29 (dk_at dksX5_authorize_7 10 rfl rfl)
theorem dX5_authorize_172 : decode cX5_authorize 172 = .ok (.iastore, 1) := dk_79 (dk_at dksX5_authorize_7 11 rfl rfl)
theorem dX5_authorize_173 : decode cX5_authorize 173 = .ok (.aload_n 0, 1) := dk_42 (dk_at dksX5_authorize_7 12 rfl rfl)
theorem dX5_authorize_174 : decode cX5_authorize 174 = .ok (.getfield 125, 3) := dk_180 0 125 (dk_at dksX5_authorize_7 13 rfl rfl)
theorem dX5_authorize_177 : decode cX5_authorize 177 = .ok (.aload_n 0, 1) := dk_42 (dk_at dksX5_authorize_7 16 rfl rfl)
theorem dX5_authorize_178 : decode cX5_authorize 178 = .ok (.getfield 361, 3) := dk_180 1 105 (dk_at dksX5_authorize_7 17 rfl rfl)
theorem dX5_authorize_181 : decode cX5_authorize 181 = .ok (.iload 4, 2) := dk_21 4 (dk_at dksX5_authorize_7 20 rfl rfl)
theorem dX5_authorize_183 : decode cX5_authorize 183 = .ok (.iastore, 1) := dk_79 (dk_at dksX5_authorize_7 22 rfl rfl)
theorem dX5_authorize_184 : decode cX5_authorize 184 = .ok (.aload_n 0, 1) := dk_42 (dk_at dksX5_authorize_7 23 rfl rfl)
theorem dX5_authorize_185 : decode cX5_authorize 185 = .ok (.getfield 128, 3) := dk_180 0 128 (dk_at dksX5_authorize_8 0 rfl rfl)
theorem dX5_authorize_188 : decode cX5_authorize 188 = .ok (.aload_n 0, 1) := dk_42 (dk_at dksX5_authorize_8 3 rfl rfl)
theorem dX5_authorize_189 : decode cX5_authorize 189 = .ok (.getfield 361, 3) := dk_180 1 105 (dk_at dksX5_authorize_8 4 rfl rfl)
theorem dX5_authorize_192 : decode cX5_authorize 192 = .ok (.aload_n 0, 1) := dk_42 (dk_at dksX5_authorize_8 7 rfl rfl)
theorem dX5_authorize_193 : decode cX5_authorize 193 = .ok (.getfield 247, 3) := dk_180 0 247 (dk_at dksX5_authorize_8 8 rfl rfl)
theorem dX5_authorize_196 : decode cX5_authorize 196 = .ok (.iastore, 1) := dk_79 (dk_at dksX5_authorize_8 11 rfl rfl)
theorem dX5_authorize_197 : decode cX5_authorize 197 = .ok (.aload_n 0, 1) := dk_42 (dk_at dksX5_authorize_8 12 rfl rfl)
theorem dX5_authorize_198 : decode cX5_authorize 198 = .ok (.getfield 131, 3) := dk_180 0 131 (dk_at dksX5_authorize_8 13 rfl rfl)
theorem dX5_authorize_201 : decode cX5_authorize 201 = .ok (.aload_n 0, 1) := dk_42 (dk_at dksX5_authorize_8 16 rfl rfl)
theorem dX5_authorize_202 : decode cX5_authorize 202 = .ok (.getfield 361, 3) := dk_180 1 105 (dk_at dksX5_authorize_8 17 rfl rfl)
theorem dX5_authorize_205 : decode cX5_authorize 205 = .ok (.iconst (-1), 1) := dk_2 (dk_at dksX5_authorize_8 20 rfl rfl)
theorem dX5_authorize_206 : decode cX5_authorize 206 = .ok (.iastore, 1) := dk_79 (dk_at dksX5_authorize_8 21 rfl rfl)
theorem dX5_authorize_207 : decode cX5_authorize 207 = .ok (.aload_n 0, 1) := dk_42 (dk_at dksX5_authorize_8 22 rfl rfl)
theorem dX5_authorize_208 : decode cX5_authorize 208 = .ok (.dup, 1) := dk_89 (dk_at dksX5_authorize_8 23 rfl rfl)
theorem dX5_authorize_209 : decode cX5_authorize 209 = .ok (.getfield 361, 3) := dk_180 1 105 (dk_at dksX5_authorize_9 0 rfl rfl)
theorem dX5_authorize_212 : decode cX5_authorize 212 = .ok (.iconst 1, 1) := dk_4 (dk_at dksX5_authorize_9 3 rfl rfl)
theorem dX5_authorize_213 : decode cX5_authorize 213 = .ok (.iadd, 1) := dk_96 (dk_at dksX5_authorize_9 4 rfl rfl)
theorem dX5_authorize_214 : decode cX5_authorize 214 = .ok (.putfield 361, 3) := dk_181 1 105 (dk_at dksX5_authorize_9 5 rfl rfl)
theorem dX5_authorize_217 : decode cX5_authorize 217 = .ok (.aload_n 0, 1) := dk_42 (dk_at dksX5_authorize_9 8 rfl rfl)
theorem dX5_authorize_218 : decode cX5_authorize 218 = .ok (.getfield 361, 3) := dk_180 1 105 (dk_at dksX5_authorize_9 9 rfl rfl)
theorem dX5_authorize_221 : decode cX5_authorize 221 = .ok (.iconst 1, 1) := dk_4 (dk_at dksX5_authorize_9 12 rfl rfl)
theorem dX5_authorize_222 : decode cX5_authorize 222 = .ok (.isub, 1) := dk_100 (dk_at dksX5_authorize_9 13 rfl rfl)
theorem dX5_authorize_223 : decode cX5_authorize 223 = .ok (.ireturn, 1) := dk_172 (dk_at dksX5_authorize_9 14 rfl rfl)
abbrev cX5_redeem : ByteArray := prog_14_method_71_code
def yX5_redeem : MethodName := ⟨RX5, "redeem", "(I)I"⟩
def dkwX5_redeem_8 : List UInt8 := [182, 1, 112, 21, 4, 172]
abbrev dktX5_redeem_8 : List UInt8 := dkwX5_redeem_8 ++ []
def dkwX5_redeem_7 : List UInt8 := [21, 4, 79, 42, 89, 180, 0, 238, 4, 96, 181, 0, 238, 42, 5, 21, 4, 182, 0, 255, 42, 21, 4]
abbrev dktX5_redeem_7 : List UInt8 := dkwX5_redeem_7 ++ dktX5_redeem_8
def dkwX5_redeem_6 : List UInt8 := [180, 0, 140, 21, 4, 42, 180, 0, 247, 79, 42, 180, 0, 146, 21, 4, 4, 84, 42, 180, 0, 131, 27]
abbrev dktX5_redeem_6 : List UInt8 := dkwX5_redeem_6 ++ dktX5_redeem_7
def dkwX5_redeem_5 : List UInt8 := [172, 42, 180, 0, 238, 54, 4, 42, 180, 0, 134, 21, 4, 27, 79, 42, 180, 0, 137, 21, 4, 3, 79, 42]
abbrev dktX5_redeem_5 : List UInt8 := dkwX5_redeem_5 ++ dktX5_redeem_6
def dkwX5_redeem_4 : List UInt8 := [154, 0, 25, 42, 180, 0, 131, 27, 46, 2, 159, 0, 13, 42, 42, 180, 0, 131, 27, 46, 182, 1, 7, 2]
abbrev dktX5_redeem_4 : List UInt8 := dkwX5_redeem_4 ++ dktX5_redeem_5
def dkwX5_redeem_3 : List UInt8 := [180, 0, 241, 17, 0, 200, 162, 0, 7, 4, 167, 0, 4, 3, 182, 1, 18, 154, 0, 5, 3, 172, 29]
abbrev dktX5_redeem_3 : List UInt8 := dkwX5_redeem_3 ++ dktX5_redeem_4
def dkwX5_redeem_2 : List UInt8 := [180, 0, 116, 27, 46, 51, 153, 0, 7, 4, 167, 0, 4, 3, 62, 42, 28, 29, 153, 0, 13, 42]
abbrev dktX5_redeem_2 : List UInt8 := dkwX5_redeem_2 ++ dktX5_redeem_3
def dkwX5_redeem_1 : List UInt8 := [160, 0, 36, 42, 180, 0, 247, 42, 180, 0, 128, 27, 46, 100, 8, 163, 0, 21, 42, 180, 0, 104, 42]
abbrev dktX5_redeem_1 : List UInt8 := dkwX5_redeem_1 ++ dktX5_redeem_2
def dkwX5_redeem_0 : List UInt8 := [27, 3, 42, 180, 1, 105, 4, 100, 184, 0, 228, 61, 28, 153, 0, 46, 42, 180, 0, 131, 27, 46, 2]
abbrev dktX5_redeem_0 : List UInt8 := dkwX5_redeem_0 ++ dktX5_redeem_1
theorem dksX5_redeem_0 : cX5_redeem.data.toList.drop 0 = dktX5_redeem_0 := by decide +kernel
theorem dksX5_redeem_1 : cX5_redeem.data.toList.drop 23 = dktX5_redeem_1 := dk_seg dksX5_redeem_0 23 rfl rfl
theorem dksX5_redeem_2 : cX5_redeem.data.toList.drop 46 = dktX5_redeem_2 := dk_seg dksX5_redeem_1 23 rfl rfl
theorem dksX5_redeem_3 : cX5_redeem.data.toList.drop 68 = dktX5_redeem_3 := dk_seg dksX5_redeem_2 22 rfl rfl
theorem dksX5_redeem_4 : cX5_redeem.data.toList.drop 91 = dktX5_redeem_4 := dk_seg dksX5_redeem_3 23 rfl rfl
theorem dksX5_redeem_5 : cX5_redeem.data.toList.drop 115 = dktX5_redeem_5 := dk_seg dksX5_redeem_4 24 rfl rfl
theorem dksX5_redeem_6 : cX5_redeem.data.toList.drop 139 = dktX5_redeem_6 := dk_seg dksX5_redeem_5 24 rfl rfl
theorem dksX5_redeem_7 : cX5_redeem.data.toList.drop 162 = dktX5_redeem_7 := dk_seg dksX5_redeem_6 23 rfl rfl
theorem dksX5_redeem_8 : cX5_redeem.data.toList.drop 185 = dktX5_redeem_8 := dk_seg dksX5_redeem_7 23 rfl rfl
theorem dX5_redeem_0 : decode cX5_redeem 0 = .ok (.iload_n 1, 1) := dk_27 (dk_at dksX5_redeem_0 0 rfl rfl)
theorem dX5_redeem_1 : decode cX5_redeem 1 = .ok (.iconst 0, 1) := dk_3 (dk_at dksX5_redeem_0 1 rfl rfl)
theorem dX5_redeem_2 : decode cX5_redeem 2 = .ok (.aload_n 0, 1) := dk_42 (dk_at dksX5_redeem_0 2 rfl rfl)
theorem dX5_redeem_3 : decode cX5_redeem 3 = .ok (.getfield 361, 3) := dk_180 1 105 (dk_at dksX5_redeem_0 3 rfl rfl)
theorem dX5_redeem_6 : decode cX5_redeem 6 = .ok (.iconst 1, 1) := dk_4 (dk_at dksX5_redeem_0 6 rfl rfl)
theorem dX5_redeem_7 : decode cX5_redeem 7 = .ok (.isub, 1) := dk_100 (dk_at dksX5_redeem_0 7 rfl rfl)
theorem dX5_redeem_8 : decode cX5_redeem 8 = .ok (.invokestatic 228, 3) := dk_184 0 228 (dk_at dksX5_redeem_0 8 rfl rfl)
theorem dX5_redeem_11 : decode cX5_redeem 11 = .ok (.istore_n 2, 1) := dk_61 (dk_at dksX5_redeem_0 11 rfl rfl)
theorem dX5_redeem_12 : decode cX5_redeem 12 = .ok (.iload_n 2, 1) := dk_28 (dk_at dksX5_redeem_0 12 rfl rfl)
theorem dX5_redeem_13 : decode cX5_redeem 13 = .ok (.ifCond .eq 46, 3) := dk_153 0 46 (dk_at dksX5_redeem_0 13 rfl rfl)
theorem dX5_redeem_16 : decode cX5_redeem 16 = .ok (.aload_n 0, 1) := dk_42 (dk_at dksX5_redeem_0 16 rfl rfl)
theorem dX5_redeem_17 : decode cX5_redeem 17 = .ok (.getfield 131, 3) := dk_180 0 131 (dk_at dksX5_redeem_0 17 rfl rfl)
theorem dX5_redeem_20 : decode cX5_redeem 20 = .ok (.iload_n 1, 1) := dk_27 (dk_at dksX5_redeem_0 20 rfl rfl)
theorem dX5_redeem_21 : decode cX5_redeem 21 = .ok (.iaload, 1) := dk_46 (dk_at dksX5_redeem_0 21 rfl rfl)
theorem dX5_redeem_22 : decode cX5_redeem 22 = .ok (.iconst (-1), 1) := dk_2 (dk_at dksX5_redeem_0 22 rfl rfl)
theorem dX5_redeem_23 : decode cX5_redeem 23 = .ok (.if_icmp .ne 36, 3) := dk_160 0 36 (dk_at dksX5_redeem_1 0 rfl rfl)
theorem dX5_redeem_26 : decode cX5_redeem 26 = .ok (.aload_n 0, 1) := dk_42 (dk_at dksX5_redeem_1 3 rfl rfl)
theorem dX5_redeem_27 : decode cX5_redeem 27 = .ok (.getfield 247, 3) := dk_180 0 247 (dk_at dksX5_redeem_1 4 rfl rfl)
theorem dX5_redeem_30 : decode cX5_redeem 30 = .ok (.aload_n 0, 1) := dk_42 (dk_at dksX5_redeem_1 7 rfl rfl)
theorem dX5_redeem_31 : decode cX5_redeem 31 = .ok (.getfield 128, 3) := dk_180 0 128 (dk_at dksX5_redeem_1 8 rfl rfl)
theorem dX5_redeem_34 : decode cX5_redeem 34 = .ok (.iload_n 1, 1) := dk_27 (dk_at dksX5_redeem_1 11 rfl rfl)
theorem dX5_redeem_35 : decode cX5_redeem 35 = .ok (.iaload, 1) := dk_46 (dk_at dksX5_redeem_1 12 rfl rfl)
theorem dX5_redeem_36 : decode cX5_redeem 36 = .ok (.isub, 1) := dk_100 (dk_at dksX5_redeem_1 13 rfl rfl)
theorem dX5_redeem_37 : decode cX5_redeem 37 = .ok (.iconst 5, 1) := dk_8 (dk_at dksX5_redeem_1 14 rfl rfl)
theorem dX5_redeem_38 : decode cX5_redeem 38 = .ok (.if_icmp .gt 21, 3) := dk_163 0 21 (dk_at dksX5_redeem_1 15 rfl rfl)
theorem dX5_redeem_41 : decode cX5_redeem 41 = .ok (.aload_n 0, 1) := dk_42 (dk_at dksX5_redeem_1 18 rfl rfl)
theorem dX5_redeem_42 : decode cX5_redeem 42 = .ok (.getfield 104, 3) := dk_180 0 104 (dk_at dksX5_redeem_1 19 rfl rfl)
theorem dX5_redeem_45 : decode cX5_redeem 45 = .ok (.aload_n 0, 1) := dk_42 (dk_at dksX5_redeem_1 22 rfl rfl)
theorem dX5_redeem_46 : decode cX5_redeem 46 = .ok (.getfield 116, 3) := dk_180 0 116 (dk_at dksX5_redeem_2 0 rfl rfl)
theorem dX5_redeem_49 : decode cX5_redeem 49 = .ok (.iload_n 1, 1) := dk_27 (dk_at dksX5_redeem_2 3 rfl rfl)
theorem dX5_redeem_50 : decode cX5_redeem 50 = .ok (.iaload, 1) := dk_46 (dk_at dksX5_redeem_2 4 rfl rfl)
theorem dX5_redeem_51 : decode cX5_redeem 51 = .ok (.baload, 1) := dk_51 (dk_at dksX5_redeem_2 5 rfl rfl)
theorem dX5_redeem_52 : decode cX5_redeem 52 = .ok (.ifCond .eq 7, 3) := dk_153 0 7 (dk_at dksX5_redeem_2 6 rfl rfl)
theorem dX5_redeem_55 : decode cX5_redeem 55 = .ok (.iconst 1, 1) := dk_4 (dk_at dksX5_redeem_2 9 rfl rfl)
theorem dX5_redeem_56 : decode cX5_redeem 56 = .ok (.goto 4, 3) := dk_167 0 4 (dk_at dksX5_redeem_2 10 rfl rfl)
theorem dX5_redeem_59 : decode cX5_redeem 59 = .ok (.iconst 0, 1) := dk_3 (dk_at dksX5_redeem_2 13 rfl rfl)
theorem dX5_redeem_60 : decode cX5_redeem 60 = .ok (.istore_n 3, 1) := dk_62 (dk_at dksX5_redeem_2 14 rfl rfl)
theorem dX5_redeem_61 : decode cX5_redeem 61 = .ok (.aload_n 0, 1) := dk_42 (dk_at dksX5_redeem_2 15 rfl rfl)
theorem dX5_redeem_62 : decode cX5_redeem 62 = .ok (.iload_n 2, 1) := dk_28 (dk_at dksX5_redeem_2 16 rfl rfl)
theorem dX5_redeem_63 : decode cX5_redeem 63 = .ok (.iload_n 3, 1) := dk_29 (dk_at dksX5_redeem_2 17 rfl rfl)
theorem dX5_redeem_64 : decode cX5_redeem 64 = .ok (.ifCond .eq 13, 3) := dk_153 0 13 (dk_at dksX5_redeem_2 18 rfl rfl)
theorem dX5_redeem_67 : decode cX5_redeem 67 = .ok (.aload_n 0, 1) := dk_42 (dk_at dksX5_redeem_2 21 rfl rfl)
theorem dX5_redeem_68 : decode cX5_redeem 68 = .ok (.getfield 241, 3) := dk_180 0 241 (dk_at dksX5_redeem_3 0 rfl rfl)
theorem dX5_redeem_71 : decode cX5_redeem 71 = .ok (.sipush 200, 3) := dk_17 0 200 (dk_at dksX5_redeem_3 3 rfl rfl)
theorem dX5_redeem_74 : decode cX5_redeem 74 = .ok (.if_icmp .ge 7, 3) := dk_162 0 7 (dk_at dksX5_redeem_3 6 rfl rfl)
theorem dX5_redeem_77 : decode cX5_redeem 77 = .ok (.iconst 1, 1) := dk_4 (dk_at dksX5_redeem_3 9 rfl rfl)
theorem dX5_redeem_78 : decode cX5_redeem 78 = .ok (.goto 4, 3) := dk_167 0 4 (dk_at dksX5_redeem_3 10 rfl rfl)
theorem dX5_redeem_81 : decode cX5_redeem 81 = .ok (.iconst 0, 1) := dk_3 (dk_at dksX5_redeem_3 13 rfl rfl)
theorem dX5_redeem_82 : decode cX5_redeem 82 = .ok (.invokevirtual 274, 3) := dk_182 1 18 (dk_at dksX5_redeem_3 14 rfl rfl)
theorem dX5_redeem_85 : decode cX5_redeem 85 = .ok (.ifCond .ne 5, 3) := dk_154 0 5 (dk_at dksX5_redeem_3 17 rfl rfl)
theorem dX5_redeem_88 : decode cX5_redeem 88 = .ok (.iconst 0, 1) := dk_3 (dk_at dksX5_redeem_3 20 rfl rfl)
theorem dX5_redeem_89 : decode cX5_redeem 89 = .ok (.ireturn, 1) := dk_172 (dk_at dksX5_redeem_3 21 rfl rfl)
theorem dX5_redeem_90 : decode cX5_redeem 90 = .ok (.iload_n 3, 1) := dk_29 (dk_at dksX5_redeem_3 22 rfl rfl)
theorem dX5_redeem_91 : decode cX5_redeem 91 = .ok (.ifCond .ne 25, 3) := dk_154 0 25 (dk_at dksX5_redeem_4 0 rfl rfl)
theorem dX5_redeem_94 : decode cX5_redeem 94 = .ok (.aload_n 0, 1) := dk_42 (dk_at dksX5_redeem_4 3 rfl rfl)
theorem dX5_redeem_95 : decode cX5_redeem 95 = .ok (.getfield 131, 3) := dk_180 0 131 (dk_at dksX5_redeem_4 4 rfl rfl)
theorem dX5_redeem_98 : decode cX5_redeem 98 = .ok (.iload_n 1, 1) := dk_27 (dk_at dksX5_redeem_4 7 rfl rfl)
theorem dX5_redeem_99 : decode cX5_redeem 99 = .ok (.iaload, 1) := dk_46 (dk_at dksX5_redeem_4 8 rfl rfl)
theorem dX5_redeem_100 : decode cX5_redeem 100 = .ok (.iconst (-1), 1) := dk_2 (dk_at dksX5_redeem_4 9 rfl rfl)
theorem dX5_redeem_101 : decode cX5_redeem 101 = .ok (.if_icmp .eq 13, 3) := dk_159 0 13 (dk_at dksX5_redeem_4 10 rfl rfl)
theorem dX5_redeem_104 : decode cX5_redeem 104 = .ok (.aload_n 0, 1) := dk_42 (dk_at dksX5_redeem_4 13 rfl rfl)
theorem dX5_redeem_105 : decode cX5_redeem 105 = .ok (.aload_n 0, 1) := dk_42 (dk_at dksX5_redeem_4 14 rfl rfl)
theorem dX5_redeem_106 : decode cX5_redeem 106 = .ok (.getfield 131, 3) := dk_180 0 131 (dk_at dksX5_redeem_4 15 rfl rfl)
theorem dX5_redeem_109 : decode cX5_redeem 109 = .ok (.iload_n 1, 1) := dk_27 (dk_at dksX5_redeem_4 18 rfl rfl)
theorem dX5_redeem_110 : decode cX5_redeem 110 = .ok (.iaload, 1) := dk_46 (dk_at dksX5_redeem_4 19 rfl rfl)
theorem dX5_redeem_111 : decode cX5_redeem 111 = .ok (.invokevirtual 263, 3) := dk_182 1 7 (dk_at dksX5_redeem_4 20 rfl rfl)
theorem dX5_redeem_114 : decode cX5_redeem 114 = .ok (.iconst (-1), 1) := dk_2 (dk_at dksX5_redeem_4 23 rfl rfl)
theorem dX5_redeem_115 : decode cX5_redeem 115 = .ok (.ireturn, 1) := dk_172 (dk_at dksX5_redeem_5 0 rfl rfl)
theorem dX5_redeem_116 : decode cX5_redeem 116 = .ok (.aload_n 0, 1) := dk_42 (dk_at dksX5_redeem_5 1 rfl rfl)
theorem dX5_redeem_117 : decode cX5_redeem 117 = .ok (.getfield 238, 3) := dk_180 0 238 (dk_at dksX5_redeem_5 2 rfl rfl)
theorem dX5_redeem_120 : decode cX5_redeem 120 = .ok (.istore 4, 2) := dk_54 4 (dk_at dksX5_redeem_5 5 rfl rfl)
theorem dX5_redeem_122 : decode cX5_redeem 122 = .ok (.aload_n 0, 1) := dk_42 (dk_at dksX5_redeem_5 7 rfl rfl)
theorem dX5_redeem_123 : decode cX5_redeem 123 = .ok (.getfield 134, 3) := dk_180 0 134 (dk_at dksX5_redeem_5 8 rfl rfl)
theorem dX5_redeem_126 : decode cX5_redeem 126 = .ok (.iload 4, 2) := dk_21 4 (dk_at dksX5_redeem_5 11 rfl rfl)
theorem dX5_redeem_128 : decode cX5_redeem 128 = .ok (.iload_n 1, 1) := dk_27 (dk_at dksX5_redeem_5 13 rfl rfl)
theorem dX5_redeem_129 : decode cX5_redeem 129 = .ok (.iastore, 1) := dk_79 (dk_at dksX5_redeem_5 14 rfl rfl)
theorem dX5_redeem_130 : decode cX5_redeem 130 = .ok (.aload_n 0, 1) := dk_42 (dk_at dksX5_redeem_5 15 rfl rfl)
theorem dX5_redeem_131 : decode cX5_redeem 131 = .ok (.getfield 137, 3) := dk_180 0 137 (dk_at dksX5_redeem_5 16 rfl rfl)
theorem dX5_redeem_134 : decode cX5_redeem 134 = .ok (.iload 4, 2) := dk_21 4 (dk_at dksX5_redeem_5 19 rfl rfl)
theorem dX5_redeem_136 : decode cX5_redeem 136 = .ok (.iconst 0, 1) := dk_3 (dk_at dksX5_redeem_5 21 rfl rfl)
theorem dX5_redeem_137 : decode cX5_redeem 137 = .ok (.iastore, 1) := dk_79 (dk_at dksX5_redeem_5 22 rfl rfl)
theorem dX5_redeem_138 : decode cX5_redeem 138 = .ok (.aload_n 0, 1) := dk_42 (dk_at dksX5_redeem_5 23 rfl rfl)
theorem dX5_redeem_139 : decode cX5_redeem 139 = .ok (.getfield 140, 3) := dk_180 0 140 (dk_at dksX5_redeem_6 0 rfl rfl)
theorem dX5_redeem_142 : decode cX5_redeem 142 = .ok (.iload 4, 2) := dk_21 4 (dk_at dksX5_redeem_6 3 rfl rfl)
theorem dX5_redeem_144 : decode cX5_redeem 144 = .ok (.aload_n 0, 1) := dk_42 (dk_at dksX5_redeem_6 5 rfl rfl)
theorem dX5_redeem_145 : decode cX5_redeem 145 = .ok (.getfield 247, 3) := dk_180 0 247 (dk_at dksX5_redeem_6 6 rfl rfl)
theorem dX5_redeem_148 : decode cX5_redeem 148 = .ok (.iastore, 1) := dk_79 (dk_at dksX5_redeem_6 9 rfl rfl)
theorem dX5_redeem_149 : decode cX5_redeem 149 = .ok (.aload_n 0, 1) := dk_42 (dk_at dksX5_redeem_6 10 rfl rfl)
theorem dX5_redeem_150 : decode cX5_redeem 150 = .ok (.getfield 146, 3) := dk_180 0 146 (dk_at dksX5_redeem_6 11 rfl rfl)
theorem dX5_redeem_153 : decode cX5_redeem 153 = .ok (.iload 4, 2) := dk_21 4 (dk_at dksX5_redeem_6 14 rfl rfl)
theorem dX5_redeem_155 : decode cX5_redeem 155 = .ok (.iconst 1, 1) := dk_4 (dk_at dksX5_redeem_6 16 rfl rfl)
theorem dX5_redeem_156 : decode cX5_redeem 156 = .ok (.bastore, 1) := dk_84 (dk_at dksX5_redeem_6 17 rfl rfl)
theorem dX5_redeem_157 : decode cX5_redeem 157 = .ok (.aload_n 0, 1) := dk_42 (dk_at dksX5_redeem_6 18 rfl rfl)
theorem dX5_redeem_158 : decode cX5_redeem 158 = .ok (.getfield 131, 3) := dk_180 0 131 (dk_at dksX5_redeem_6 19 rfl rfl)
theorem dX5_redeem_161 : decode cX5_redeem 161 = .ok (.iload_n 1, 1) := dk_27 (dk_at dksX5_redeem_6 22 rfl rfl)
theorem dX5_redeem_162 : decode cX5_redeem 162 = .ok (.iload 4, 2) := dk_21 4 (dk_at dksX5_redeem_7 0 rfl rfl)
theorem dX5_redeem_164 : decode cX5_redeem 164 = .ok (.iastore, 1) := dk_79 (dk_at dksX5_redeem_7 2 rfl rfl)
theorem dX5_redeem_165 : decode cX5_redeem 165 = .ok (.aload_n 0, 1) := dk_42 (dk_at dksX5_redeem_7 3 rfl rfl)
theorem dX5_redeem_166 : decode cX5_redeem 166 = .ok (.dup, 1) := dk_89 (dk_at dksX5_redeem_7 4 rfl rfl)
theorem dX5_redeem_167 : decode cX5_redeem 167 = .ok (.getfield 238, 3) := dk_180 0 238 (dk_at dksX5_redeem_7 5 rfl rfl)
theorem dX5_redeem_170 : decode cX5_redeem 170 = .ok (.iconst 1, 1) := dk_4 (dk_at dksX5_redeem_7 8 rfl rfl)
theorem dX5_redeem_171 : decode cX5_redeem 171 = .ok (.iadd, 1) := dk_96 (dk_at dksX5_redeem_7 9 rfl rfl)
theorem dX5_redeem_172 : decode cX5_redeem 172 = .ok (.putfield 238, 3) := dk_181 0 238 (dk_at dksX5_redeem_7 10 rfl rfl)
theorem dX5_redeem_175 : decode cX5_redeem 175 = .ok (.aload_n 0, 1) := dk_42 (dk_at dksX5_redeem_7 13 rfl rfl)
theorem dX5_redeem_176 : decode cX5_redeem 176 = .ok (.iconst 2, 1) := dk_5 (dk_at dksX5_redeem_7 14 rfl rfl)
theorem dX5_redeem_177 : decode cX5_redeem 177 = .ok (.iload 4, 2) := dk_21 4 (dk_at dksX5_redeem_7 15 rfl rfl)
theorem dX5_redeem_179 : decode cX5_redeem 179 = .ok (.invokevirtual 255, 3) := dk_182 0 255 (dk_at dksX5_redeem_7 17 rfl rfl)
theorem dX5_redeem_182 : decode cX5_redeem 182 = .ok (.aload_n 0, 1) := dk_42 (dk_at dksX5_redeem_7 20 rfl rfl)
theorem dX5_redeem_183 : decode cX5_redeem 183 = .ok (.iload 4, 2) := dk_21 4 (dk_at dksX5_redeem_7 21 rfl rfl)
theorem dX5_redeem_185 : decode cX5_redeem 185 = .ok (.invokevirtual 368, 3) := dk_182 1 112 (dk_at dksX5_redeem_8 0 rfl rfl)
theorem dX5_redeem_188 : decode cX5_redeem 188 = .ok (.iload 4, 2) := dk_21 4 (dk_at dksX5_redeem_8 3 rfl rfl)
theorem dX5_redeem_190 : decode cX5_redeem 190 = .ok (.ireturn, 1) := dk_172 (dk_at dksX5_redeem_8 5 rfl rfl)
abbrev cX5_firstToken : ByteArray := prog_14_method_70_code
def yX5_firstToken : MethodName := ⟨RX5, "firstToken", "(I)V"⟩
def dkwX5_firstToken_1 : List UInt8 := [180, 0, 125, 28, 46, 3, 42, 180, 0, 247, 16, 10, 96, 182, 1, 108, 87, 177]
abbrev dktX5_firstToken_1 : List UInt8 := dkwX5_firstToken_1 ++ []
def dkwX5_firstToken_0 : List UInt8 := [42, 180, 0, 134, 27, 46, 61, 42, 27, 42, 180, 0, 119, 28, 46, 42, 180, 0, 122, 28, 46, 42]
abbrev dktX5_firstToken_0 : List UInt8 := dkwX5_firstToken_0 ++ dktX5_firstToken_1
theorem dksX5_firstToken_0 : cX5_firstToken.data.toList.drop 0 = dktX5_firstToken_0 := by decide +kernel
theorem dksX5_firstToken_1 : cX5_firstToken.data.toList.drop 22 = dktX5_firstToken_1 := dk_seg dksX5_firstToken_0 22 rfl rfl
theorem dX5_firstToken_0 : decode cX5_firstToken 0 = .ok (.aload_n 0, 1) := dk_42 (dk_at dksX5_firstToken_0 0 rfl rfl)
theorem dX5_firstToken_1 : decode cX5_firstToken 1 = .ok (.getfield 134, 3) := dk_180 0 134 (dk_at dksX5_firstToken_0 1 rfl rfl)
theorem dX5_firstToken_4 : decode cX5_firstToken 4 = .ok (.iload_n 1, 1) := dk_27 (dk_at dksX5_firstToken_0 4 rfl rfl)
theorem dX5_firstToken_5 : decode cX5_firstToken 5 = .ok (.iaload, 1) := dk_46 (dk_at dksX5_firstToken_0 5 rfl rfl)
theorem dX5_firstToken_6 : decode cX5_firstToken 6 = .ok (.istore_n 2, 1) := dk_61 (dk_at dksX5_firstToken_0 6 rfl rfl)
theorem dX5_firstToken_7 : decode cX5_firstToken 7 = .ok (.aload_n 0, 1) := dk_42 (dk_at dksX5_firstToken_0 7 rfl rfl)
theorem dX5_firstToken_8 : decode cX5_firstToken 8 = .ok (.iload_n 1, 1) := dk_27 (dk_at dksX5_firstToken_0 8 rfl rfl)
theorem dX5_firstToken_9 : decode cX5_firstToken 9 = .ok (.aload_n 0, 1) := dk_42 (dk_at dksX5_firstToken_0 9 rfl rfl)
theorem dX5_firstToken_10 : decode cX5_firstToken 10 = .ok (.getfield 119, 3) := dk_180 0 119 (dk_at dksX5_firstToken_0 10 rfl rfl)
theorem dX5_firstToken_13 : decode cX5_firstToken 13 = .ok (.iload_n 2, 1) := dk_28 (dk_at dksX5_firstToken_0 13 rfl rfl)
theorem dX5_firstToken_14 : decode cX5_firstToken 14 = .ok (.iaload, 1) := dk_46 (dk_at dksX5_firstToken_0 14 rfl rfl)
theorem dX5_firstToken_15 : decode cX5_firstToken 15 = .ok (.aload_n 0, 1) := dk_42 (dk_at dksX5_firstToken_0 15 rfl rfl)
theorem dX5_firstToken_16 : decode cX5_firstToken 16 = .ok (.getfield 122, 3) := dk_180 0 122 (dk_at dksX5_firstToken_0 16 rfl rfl)
theorem dX5_firstToken_19 : decode cX5_firstToken 19 = .ok (.iload_n 2, 1) := dk_28 (dk_at dksX5_firstToken_0 19 rfl rfl)
theorem dX5_firstToken_20 : decode cX5_firstToken 20 = .ok (.iaload, 1) := dk_46 (dk_at dksX5_firstToken_0 20 rfl rfl)
theorem dX5_firstToken_21 : decode cX5_firstToken 21 = .ok (.aload_n 0, 1) := dk_42 (dk_at dksX5_firstToken_0 21 rfl rfl)
theorem dX5_firstToken_22 : decode cX5_firstToken 22 = .ok (.getfield 125, 3) := dk_180 0 125 (dk_at dksX5_firstToken_1 0 rfl rfl)
theorem dX5_firstToken_25 : decode cX5_firstToken 25 = .ok (.iload_n 2, 1) := dk_28 (dk_at dksX5_firstToken_1 3 rfl rfl)
theorem dX5_firstToken_26 : decode cX5_firstToken 26 = .ok (.iaload, 1) := dk_46 (dk_at dksX5_firstToken_1 4 rfl rfl)
theorem dX5_firstToken_27 : decode cX5_firstToken 27 = .ok (.iconst 0, 1) := dk_3 (dk_at dksX5_firstToken_1 5 rfl rfl)
theorem dX5_firstToken_28 : decode cX5_firstToken 28 = .ok (.aload_n 0, 1) := dk_42 (dk_at dksX5_firstToken_1 6 rfl rfl)
theorem dX5_firstToken_29 : decode cX5_firstToken 29 = .ok (.getfield 247, 3) := dk_180 0 247 (dk_at dksX5_firstToken_1 7 rfl rfl)
theorem dX5_firstToken_32 : decode cX5_firstToken 32 = .ok (.bipush 10, 2) := dk_16 10 (dk_at dksX5_firstToken_1 10 rfl rfl)
theorem dX5_firstToken_34 : decode cX5_firstToken 34 = .ok (.iadd, 1) := dk_96 (dk_at dksX5_firstToken_1 12 rfl rfl)
theorem dX5_firstToken_35 : decode cX5_firstToken 35 = .ok (.invokevirtual 364, 3) := dk_182 1 108 (dk_at dksX5_firstToken_1 13 rfl rfl)
theorem dX5_firstToken_38 : decode cX5_firstToken 38 = .ok (.pop, 1) := dk_87 (dk_at dksX5_firstToken_1 16 rfl rfl)
theorem dX5_firstToken_39 : decode cX5_firstToken 39 = .ok (.return_, 1) := dk_177 (dk_at dksX5_firstToken_1 17 rfl rfl)
abbrev cX5_newToken : ByteArray := prog_14_method_69_code
def yX5_newToken : MethodName := ⟨RX5, "newToken", "(IIIIII)I"⟩
def dkwX5_newToken_3 : List UInt8 := [180, 0, 143, 27, 21, 7, 79, 42, 89, 180, 0, 241, 4, 96, 181, 0, 241, 21, 7, 172]
abbrev dktX5_newToken_3 : List UInt8 := dkwX5_newToken_3 ++ []
def dkwX5_newToken_2 : List UInt8 := [79, 42, 180, 0, 167, 21, 7, 21, 6, 79, 42, 180, 0, 164, 21, 7, 42, 180, 1, 25, 79, 42]
abbrev dktX5_newToken_2 : List UInt8 := dkwX5_newToken_2 ++ dktX5_newToken_3
def dkwX5_newToken_1 : List UInt8 := [180, 0, 152, 21, 7, 29, 79, 42, 180, 0, 155, 21, 7, 21, 4, 79, 42, 180, 0, 158, 21, 7, 21, 5]
abbrev dktX5_newToken_1 : List UInt8 := dkwX5_newToken_1 ++ dktX5_newToken_2
def dkwX5_newToken_0 : List UInt8 := [42, 180, 0, 241, 54, 7, 42, 180, 0, 161, 21, 7, 27, 79, 42, 180, 0, 149, 21, 7, 28, 79, 42]
abbrev dktX5_newToken_0 : List UInt8 := dkwX5_newToken_0 ++ dktX5_newToken_1
theorem dksX5_newToken_0 : cX5_newToken.data.toList.drop 0 = dktX5_newToken_0 := by decide +kernel
theorem dksX5_newToken_1 : cX5_newToken.data.toList.drop 23 = dktX5_newToken_1 := dk_seg dksX5_newToken_0 23 rfl rfl
theorem dksX5_newToken_2 : cX5_newToken.data.toList.drop 47 = dktX5_newToken_2 := dk_seg dksX5_newToken_1 24 rfl rfl
theorem dksX5_newToken_3 : cX5_newToken.data.toList.drop 69 = dktX5_newToken_3 := dk_seg dksX5_newToken_2 22 rfl rfl
theorem dX5_newToken_0 : decode cX5_newToken 0 = .ok (.aload_n 0, 1) := dk_42 (dk_at dksX5_newToken_0 0 rfl rfl)
theorem dX5_newToken_1 : decode cX5_newToken 1 = .ok (.getfield 241, 3) := dk_180 0 241 (dk_at dksX5_newToken_0 1 rfl rfl)
theorem dX5_newToken_4 : decode cX5_newToken 4 = .ok (.istore 7, 2) := dk_54 7 (dk_at dksX5_newToken_0 4 rfl rfl)
theorem dX5_newToken_6 : decode cX5_newToken 6 = .ok (.aload_n 0, 1) := dk_42 (dk_at dksX5_newToken_0 6 rfl rfl)
theorem dX5_newToken_7 : decode cX5_newToken 7 = .ok (.getfield 161, 3) := dk_180 0 161 (dk_at dksX5_newToken_0 7 rfl rfl)
theorem dX5_newToken_10 : decode cX5_newToken 10 = .ok (.iload 7, 2) := dk_21 7 (dk_at dksX5_newToken_0 10 rfl rfl)
theorem dX5_newToken_12 : decode cX5_newToken 12 = .ok (.iload_n 1, 1) := dk_27 (dk_at dksX5_newToken_0 12 rfl rfl)
theorem dX5_newToken_13 : decode cX5_newToken 13 = .ok (.iastore, 1) := dk_79 (dk_at dksX5_newToken_0 13 rfl rfl)
theorem dX5_newToken_14 : decode cX5_newToken 14 = .ok (.aload_n 0, 1) := dk_42 (dk_at dksX5_newToken_0 14 rfl rfl)
theorem dX5_newToken_15 : decode cX5_newToken 15 = .ok (.getfield 149, 3) := dk_180 0 149 (dk_at dksX5_newToken_0 15 rfl rfl)
theorem dX5_newToken_18 : decode cX5_newToken 18 = .ok (.iload 7, 2) := dk_21 7 (dk_at dksX5_newToken_0 18 rfl rfl)
theorem dX5_newToken_20 : decode cX5_newToken 20 = .ok (.iload_n 2, 1) := dk_28 (dk_at dksX5_newToken_0 20 rfl rfl)
theorem dX5_newToken_21 : decode cX5_newToken 21 = .ok (.iastore, 1) := dk_79 (dk_at dksX5_newToken_0 21 rfl rfl)
theorem dX5_newToken_22 : decode cX5_newToken 22 = .ok (.aload_n 0, 1) := dk_42 (dk_at dksX5_newToken_0 22 rfl rfl)
theorem dX5_newToken_23 : decode cX5_newToken 23 = .ok (.getfield 152, 3) := dk_180 0 152 (dk_at dksX5_newToken_1 0 rfl rfl)
theorem dX5_newToken_26 : decode cX5_newToken 26 = .ok (.iload 7, 2) := dk_21 7 (dk_at dksX5_newToken_1 3 rfl rfl)
theorem dX5_newToken_28 : decode cX5_newToken 28 = .ok (.iload_n 3, 1) := dk_29 (dk_at dksX5_newToken_1 5 rfl rfl)
theorem dX5_newToken_29 : decode cX5_newToken 29 = .ok (.iastore, 1) := dk_79 (dk_at dksX5_newToken_1 6 rfl rfl)
theorem dX5_newToken_30 : decode cX5_newToken 30 = .ok (.aload_n 0, 1) := dk_42 (dk_at dksX5_newToken_1 7 rfl rfl)
theorem dX5_newToken_31 : decode cX5_newToken 31 = .ok (.getfield 155, 3) := dk_180 0 155 (dk_at dksX5_newToken_1 8 rfl rfl)
theorem dX5_newToken_34 : decode cX5_newToken 34 = .ok (.iload 7, 2) := dk_21 7 (dk_at dksX5_newToken_1 11 rfl rfl)
theorem dX5_newToken_36 : decode cX5_newToken 36 = .ok (.iload 4, 2) := dk_21 4 (dk_at dksX5_newToken_1 13 rfl rfl)
theorem dX5_newToken_38 : decode cX5_newToken 38 = .ok (.iastore, 1) := dk_79 (dk_at dksX5_newToken_1 15 rfl rfl)
theorem dX5_newToken_39 : decode cX5_newToken 39 = .ok (.aload_n 0, 1) := dk_42 (dk_at dksX5_newToken_1 16 rfl rfl)
theorem dX5_newToken_40 : decode cX5_newToken 40 = .ok (.getfield 158, 3) := dk_180 0 158 (dk_at dksX5_newToken_1 17 rfl rfl)
theorem dX5_newToken_43 : decode cX5_newToken 43 = .ok (.iload 7, 2) := dk_21 7 (dk_at dksX5_newToken_1 20 rfl rfl)
theorem dX5_newToken_45 : decode cX5_newToken 45 = .ok (.iload 5, 2) := dk_21 5 (dk_at dksX5_newToken_1 22 rfl rfl)
theorem dX5_newToken_47 : decode cX5_newToken 47 = .ok (.iastore, 1) := dk_79 (dk_at dksX5_newToken_2 0 rfl rfl)
theorem dX5_newToken_48 : decode cX5_newToken 48 = .ok (.aload_n 0, 1) := dk_42 (dk_at dksX5_newToken_2 1 rfl rfl)
theorem dX5_newToken_49 : decode cX5_newToken 49 = .ok (.getfield 167, 3) := dk_180 0 167 (dk_at dksX5_newToken_2 2 rfl rfl)
theorem dX5_newToken_52 : decode cX5_newToken 52 = .ok (.iload 7, 2) := dk_21 7 (dk_at dksX5_newToken_2 5 rfl rfl)
theorem dX5_newToken_54 : decode cX5_newToken 54 = .ok (.iload 6, 2) := dk_21 6 (dk_at dksX5_newToken_2 7 rfl rfl)
theorem dX5_newToken_56 : decode cX5_newToken 56 = .ok (.iastore, 1) := dk_79 (dk_at dksX5_newToken_2 9 rfl rfl)
theorem dX5_newToken_57 : decode cX5_newToken 57 = .ok (.aload_n 0, 1) := dk_42 (dk_at dksX5_newToken_2 10 rfl rfl)
theorem dX5_newToken_58 : decode cX5_newToken 58 = .ok (.getfield 164, 3) := dk_180 0 164 (dk_at dksX5_newToken_2 11 rfl rfl)
theorem dX5_newToken_61 : decode cX5_newToken 61 = .ok (.iload 7, 2) := dk_21 7 (dk_at dksX5_newToken_2 14 rfl rfl)
theorem dX5_newToken_63 : decode cX5_newToken 63 = .ok (.aload_n 0, 1) := dk_42 (dk_at dksX5_newToken_2 16 rfl rfl)
theorem dX5_newToken_64 : decode cX5_newToken 64 = .ok (.getfield 281, 3) := dk_180 1 25 (dk_at dksX5_newToken_2 17 rfl rfl)
theorem dX5_newToken_67 : decode cX5_newToken 67 = .ok (.iastore, 1) := dk_79 (dk_at dksX5_newToken_2 20 rfl rfl)
theorem dX5_newToken_68 : decode cX5_newToken 68 = .ok (.aload_n 0, 1) := dk_42 (dk_at dksX5_newToken_2 21 rfl rfl)
theorem dX5_newToken_69 : decode cX5_newToken 69 = .ok (.getfield 143, 3) := dk_180 0 143 (dk_at dksX5_newToken_3 0 rfl rfl)
theorem dX5_newToken_72 : decode cX5_newToken 72 = .ok (.iload_n 1, 1) := dk_27 (dk_at dksX5_newToken_3 3 rfl rfl)
theorem dX5_newToken_73 : decode cX5_newToken 73 = .ok (.iload 7, 2) := dk_21 7 (dk_at dksX5_newToken_3 4 rfl rfl)
theorem dX5_newToken_75 : decode cX5_newToken 75 = .ok (.iastore, 1) := dk_79 (dk_at dksX5_newToken_3 6 rfl rfl)
theorem dX5_newToken_76 : decode cX5_newToken 76 = .ok (.aload_n 0, 1) := dk_42 (dk_at dksX5_newToken_3 7 rfl rfl)
theorem dX5_newToken_77 : decode cX5_newToken 77 = .ok (.dup, 1) := dk_89 (dk_at dksX5_newToken_3 8 rfl rfl)
theorem dX5_newToken_78 : decode cX5_newToken 78 = .ok (.getfield 241, 3) := dk_180 0 241 (dk_at dksX5_newToken_3 9 rfl rfl)
theorem dX5_newToken_81 : decode cX5_newToken 81 = .ok (.iconst 1, 1) := dk_4 (dk_at dksX5_newToken_3 12 rfl rfl)
theorem dX5_newToken_82 : decode cX5_newToken 82 = .ok (.iadd, 1) := dk_96 (dk_at dksX5_newToken_3 13 rfl rfl)
theorem dX5_newToken_83 : decode cX5_newToken 83 = .ok (.putfield 241, 3) := dk_181 0 241 (dk_at dksX5_newToken_3 14 rfl rfl)
theorem dX5_newToken_86 : decode cX5_newToken 86 = .ok (.iload 7, 2) := dk_21 7 (dk_at dksX5_newToken_3 17 rfl rfl)
theorem dX5_newToken_88 : decode cX5_newToken 88 = .ok (.ireturn, 1) := dk_172 (dk_at dksX5_newToken_3 19 rfl rfl)
abbrev cX5_refresh : ByteArray := prog_14_method_72_code
def yX5_refresh : MethodName := ⟨RX5, "refresh", "(II)I"⟩
def dkwX5_refresh_9 : List UInt8 := [180, 0, 140, 27, 46, 100, 4, 163, 0, 10, 42, 180, 0, 137, 27, 46, 172, 42, 27, 182, 1, 7, 2, 172]
abbrev dktX5_refresh_9 : List UInt8 := dkwX5_refresh_9 ++ []
def dkwX5_refresh_8 : List UInt8 := [180, 0, 137, 27, 46, 172, 28, 42, 180, 0, 137, 27, 46, 4, 100, 160, 0, 25, 42, 180, 0, 247, 42]
abbrev dktX5_refresh_8 : List UInt8 := dkwX5_refresh_8 ++ dktX5_refresh_9
def dkwX5_refresh_7 : List UInt8 := [182, 1, 112, 42, 180, 0, 98, 42, 180, 0, 116, 42, 180, 0, 134, 27, 46, 46, 42, 180, 0, 247, 79, 42]
abbrev dktX5_refresh_7 : List UInt8 := dkwX5_refresh_7 ++ dktX5_refresh_8
def dkwX5_refresh_6 : List UInt8 := [42, 180, 0, 137, 27, 92, 46, 4, 96, 79, 42, 180, 0, 140, 27, 42, 180, 0, 247, 79, 42, 27]
abbrev dktX5_refresh_6 : List UInt8 := dkwX5_refresh_6 ++ dktX5_refresh_7
def dkwX5_refresh_5 : List UInt8 := [167, 0, 4, 3, 182, 1, 88, 154, 0, 5, 3, 172, 21, 5, 154, 0, 5, 2, 172, 21, 6, 153, 0, 55]
abbrev dktX5_refresh_5 : List UInt8 := dkwX5_refresh_5 ++ dktX5_refresh_6
def dkwX5_refresh_4 : List UInt8 := [54, 6, 42, 29, 21, 4, 21, 6, 153, 0, 13, 42, 180, 0, 241, 17, 0, 200, 162, 0, 7, 4]
abbrev dktX5_refresh_4 : List UInt8 := dkwX5_refresh_4 ++ dktX5_refresh_5
def dkwX5_refresh_3 : List UInt8 := [153, 0, 22, 21, 5, 153, 0, 17, 28, 42, 180, 0, 137, 27, 46, 160, 0, 7, 4, 167, 0, 4, 3]
abbrev dktX5_refresh_3 : List UInt8 := dkwX5_refresh_3 ++ dktX5_refresh_4
def dkwX5_refresh_2 : List UInt8 := [42, 180, 0, 116, 42, 180, 0, 134, 27, 46, 46, 51, 153, 0, 7, 4, 167, 0, 4, 3, 54, 5, 21, 4]
abbrev dktX5_refresh_2 : List UInt8 := dkwX5_refresh_2 ++ dktX5_refresh_3
def dkwX5_refresh_1 : List UInt8 := [4, 167, 0, 4, 3, 54, 4, 29, 153, 0, 35, 42, 180, 0, 146, 27, 51, 153, 0, 26, 42, 180, 0, 104]
abbrev dktX5_refresh_1 : List UInt8 := dkwX5_refresh_1 ++ dktX5_refresh_2
def dkwX5_refresh_0 : List UInt8 := [42, 27, 182, 1, 115, 62, 29, 153, 0, 21, 28, 3, 42, 180, 0, 137, 27, 46, 184, 0, 228, 153, 0, 7]
abbrev dktX5_refresh_0 : List UInt8 := dkwX5_refresh_0 ++ dktX5_refresh_1
theorem dksX5_refresh_0 : cX5_refresh.data.toList.drop 0 = dktX5_refresh_0 := by decide +kernel
theorem dksX5_refresh_1 : cX5_refresh.data.toList.drop 24 = dktX5_refresh_1 := dk_seg dksX5_refresh_0 24 rfl rfl
theorem dksX5_refresh_2 : cX5_refresh.data.toList.drop 48 = dktX5_refresh_2 := dk_seg dksX5_refresh_1 24 rfl rfl
theorem dksX5_refresh_3 : cX5_refresh.data.toList.drop 72 = dktX5_refresh_3 := dk_seg dksX5_refresh_2 24 rfl rfl
theorem dksX5_refresh_4 : cX5_refresh.data.toList.drop 95 = dktX5_refresh_4 := dk_seg dksX5_refresh_3 23 rfl rfl
theorem dksX5_refresh_5 : cX5_refresh.data.toList.drop 117 = dktX5_refresh_5 := dk_seg dksX5_refresh_4 22 rfl rfl
theorem dksX5_refresh_6 : cX5_refresh.data.toList.drop 141 = dktX5_refresh_6 := dk_seg dksX5_refresh_5 24 rfl rfl
theorem dksX5_refresh_7 : cX5_refresh.data.toList.drop 163 = dktX5_refresh_7 := dk_seg dksX5_refresh_6 22 rfl rfl
theorem dksX5_refresh_8 : cX5_refresh.data.toList.drop 187 = dktX5_refresh_8 := dk_seg dksX5_refresh_7 24 rfl rfl
theorem dksX5_refresh_9 : cX5_refresh.data.toList.drop 210 = dktX5_refresh_9 := dk_seg dksX5_refresh_8 23 rfl rfl
theorem dX5_refresh_0 : decode cX5_refresh 0 = .ok (.aload_n 0, 1) := dk_42 (dk_at dksX5_refresh_0 0 rfl rfl)
theorem dX5_refresh_1 : decode cX5_refresh 1 = .ok (.iload_n 1, 1) := dk_27 (dk_at dksX5_refresh_0 1 rfl rfl)
theorem dX5_refresh_2 : decode cX5_refresh 2 = .ok (.invokevirtual 371, 3) := dk_182 1 115 (dk_at dksX5_refresh_0 2 rfl rfl)
theorem dX5_refresh_5 : decode cX5_refresh 5 = .ok (.istore_n 3, 1) := dk_62 (dk_at dksX5_refresh_0 5 rfl rfl)
theorem dX5_refresh_6 : decode cX5_refresh 6 = .ok (.iload_n 3, 1) := dk_29 (dk_at dksX5_refresh_0 6 rfl rfl)
theorem dX5_refresh_7 : decode cX5_refresh 7 = .ok (.ifCond .eq 21, 3) := dk_153 0 21 (dk_at dksX5_refresh_0 7 rfl rfl)
theorem dX5_refresh_10 : decode cX5_refresh 10 = .ok (.iload_n 2, 1) := dk_28 (dk_at dksX5_refresh_0 10 rfl rfl)
theorem dX5_refresh_11 : decode cX5_refresh 11 = .ok (.iconst 0, 1) := dk_3 (dk_at dksX5_refresh_0 11 rfl rfl)
theorem dX5_refresh_12 : decode cX5_refresh 12 = .ok (.aload_n 0, 1) := dk_42 (dk_at dksX5_refresh_0 12 rfl rfl)
theorem dX5_refresh_13 : decode cX5_refresh 13 = .ok (.getfield 137, 3) := dk_180 0 137 (dk_at dksX5_refresh_0 13 rfl rfl)
theorem dX5_refresh_16 : decode cX5_refresh 16 = .ok (.iload_n 1, 1) := dk_27 (dk_at dksX5_refresh_0 16 rfl rfl)
theorem dX5_refresh_17 : decode cX5_refresh 17 = .ok (.iaload, 1) := dk_46 (dk_at dksX5_refresh_0 17 rfl rfl)
theorem dX5_refresh_18 : decode cX5_refresh 18 = .ok (.invokestatic 228, 3) := dk_184 0 228 (dk_at dksX5_refresh_0 18 rfl rfl)
theorem dX5_refresh_21 : decode cX5_refresh 21 = .ok (.ifCond .eq 7, 3) := dk_153 0 7 (dk_at dksX5_refresh_0 21 rfl rfl)
theorem dX5_refresh_24 : decode cX5_refresh 24 = .ok (.iconst 1, 1) := dk_4 (dk_at dksX5_refresh_1 0 rfl rfl)
theorem dX5_refresh_25 : decode cX5_refresh 25 = .ok (.goto 4, 3) := dk_167 0 4 (dk_at dksX5_refresh_1 1 rfl rfl)
theorem dX5_refresh_28 : decode cX5_refresh 28 = .ok (.iconst 0, 1) := dk_3 (dk_at dksX5_refresh_1 4 rfl rfl)
theorem dX5_refresh_29 : decode cX5_refresh 29 = .ok (.istore 4, 2) := dk_54 4 (dk_at dksX5_refresh_1 5 rfl rfl)
theorem dX5_refresh_31 : decode cX5_refresh 31 = .ok (.iload_n 3, 1) := dk_29 (dk_at dksX5_refresh_1 7 rfl rfl)
theorem dX5_refresh_32 : decode cX5_refresh 32 = .ok (.ifCond .eq 35, 3) := dk_153 0 35 (dk_at dksX5_refresh_1 8 rfl rfl)
theorem dX5_refresh_35 : decode cX5_refresh 35 = .ok (.aload_n 0, 1) := dk_42 (dk_at dksX5_refresh_1 11 rfl rfl)
theorem dX5_refresh_36 : decode cX5_refresh 36 = .ok (.getfield 146, 3) := dk_180 0 146 (dk_at dksX5_refresh_1 12 rfl rfl)
theorem dX5_refresh_39 : decode cX5_refresh 39 = .ok (.iload_n 1, 1) := dk_27 (dk_at dksX5_refresh_1 15 rfl rfl)
theorem dX5_refresh_40 : decode cX5_refresh 40 = .ok (.baload, 1) := dk_51 (dk_at dksX5_refresh_1 16 rfl rfl)
theorem dX5_refresh_41 : decode cX5_refresh 41 = .ok (.ifCond .eq 26, 3) := dk_153 0 26 (dk_at dksX5_refresh_1 17 rfl rfl)
theorem dX5_refresh_44 : decode cX5_refresh 44 = .ok (.aload_n 0, 1) := dk_42 (dk_at dksX5_refresh_1 20 rfl rfl)
theorem dX5_refresh_45 : decode cX5_refresh 45 = .ok (.getfield 104, 3) := dk_180 0 104 (dk_at dksX5_refresh_1 21 rfl rfl)
theorem dX5_refresh_48 : decode cX5_refresh 48 = .ok (.aload_n 0, 1) := dk_42 (dk_at dksX5_refresh_2 0 rfl rfl)
theorem dX5_refresh_49 : decode cX5_refresh 49 = .ok (.getfield 116, 3) := dk_180 0 116 (dk_at dksX5_refresh_2 1 rfl rfl)
theorem dX5_refresh_52 : decode cX5_refresh 52 = .ok (.aload_n 0, 1) := dk_42 (dk_at dksX5_refresh_2 4 rfl rfl)
theorem dX5_refresh_53 : decode cX5_refresh 53 = .ok (.getfield 134, 3) := dk_180 0 134 (dk_at dksX5_refresh_2 5 rfl rfl)
theorem dX5_refresh_56 : decode cX5_refresh 56 = .ok (.iload_n 1, 1) := dk_27 (dk_at dksX5_refresh_2 8 rfl rfl)
theorem dX5_refresh_57 : decode cX5_refresh 57 = .ok (.iaload, 1) := dk_46 (dk_at dksX5_refresh_2 9 rfl rfl)
theorem dX5_refresh_58 : decode cX5_refresh 58 = .ok (.iaload, 1) := dk_46 (dk_at dksX5_refresh_2 10 rfl rfl)
theorem dX5_refresh_59 : decode cX5_refresh 59 = .ok (.baload, 1) := dk_51 (dk_at dksX5_refresh_2 11 rfl rfl)
theorem dX5_refresh_60 : decode cX5_refresh 60 = .ok (.ifCond .eq 7, 3) := dk_153 0 7 (dk_at dksX5_refresh_2 12 rfl rfl)
theorem dX5_refresh_63 : decode cX5_refresh 63 = .ok (.iconst 1, 1) := dk_4 (dk_at dksX5_refresh_2 15 rfl rfl)
theorem dX5_refresh_64 : decode cX5_refresh 64 = .ok (.goto 4, 3) := dk_167 0 4 (dk_at dksX5_refresh_2 16 rfl rfl)
theorem dX5_refresh_67 : decode cX5_refresh 67 = .ok (.iconst 0, 1) := dk_3 (dk_at dksX5_refresh_2 19 rfl rfl)
theorem dX5_refresh_68 : decode cX5_refresh 68 = .ok (.istore 5, 2) := dk_54 5 (dk_at dksX5_refresh_2 20 rfl rfl)
theorem dX5_refresh_70 : decode cX5_refresh 70 = .ok (.iload 4, 2) := dk_21 4 (dk_at dksX5_refresh_2 22 rfl rfl)
theorem dX5_refresh_72 : decode cX5_refresh 72 = .ok (.ifCond .eq 22, 3) := dk_153 0 22 (dk_at dksX5_refresh_3 0 rfl rfl)
theorem dX5_refresh_75 : decode cX5_refresh 75 = .ok (.iload 5, 2) := dk_21 5 (dk_at dksX5_refresh_3 3 rfl rfl)
theorem dX5_refresh_77 : decode cX5_refresh 77 = .ok (.ifCond .eq 17, 3) := dk_153 0 17 (dk_at dksX5_refresh_3 5 rfl rfl)
theorem dX5_refresh_80 : decode cX5_refresh 80 = .ok (.iload_n 2, 1) := dk_28 (dk_at dksX5_refresh_3 8 rfl rfl)
theorem dX5_refresh_81 : decode cX5_refresh 81 = .ok (.aload_n 0, 1) := dk_42 (dk_at dksX5_refresh_3 9 rfl rfl)
theorem dX5_refresh_82 : decode cX5_refresh 82 = .ok (.getfield 137, 3) := dk_180 0 137 (dk_at dksX5_refresh_3 10 rfl rfl)
theorem dX5_refresh_85 : decode cX5_refresh 85 = .ok (.iload_n 1, 1) := dk_27 (dk_at dksX5_refresh_3 13 rfl rfl)
theorem dX5_refresh_86 : decode cX5_refresh 86 = .ok (.iaload, 1) := dk_46 (dk_at dksX5_refresh_3 14 rfl rfl)
theorem dX5_refresh_87 : decode cX5_refresh 87 = .ok (.if_icmp .ne 7, 3) := dk_160 0 7 (dk_at dksX5_refresh_3 15 rfl rfl)
theorem dX5_refresh_90 : decode cX5_refresh 90 = .ok (.iconst 1, 1) := dk_4 (dk_at dksX5_refresh_3 18 rfl rfl)
theorem dX5_refresh_91 : decode cX5_refresh 91 = .ok (.goto 4, 3) := dk_167 0 4 (dk_at dksX5_refresh_3 19 rfl rfl)
theorem dX5_refresh_94 : decode cX5_refresh 94 = .ok (.iconst 0, 1) := dk_3 (dk_at dksX5_refresh_3 22 rfl rfl)
theorem dX5_refresh_95 : decode cX5_refresh 95 = .ok (.istore 6, 2) := dk_54 6 (dk_at dksX5_refresh_4 0 rfl rfl)
theorem dX5_refresh_97 : decode cX5_refresh 97 = .ok (.aload_n 0, 1) := dk_42 (dk_at dksX5_refresh_4 2 rfl rfl)
theorem dX5_refresh_98 : decode cX5_refresh 98 = .ok (.iload_n 3, 1) := dk_29 (dk_at dksX5_refresh_4 3 rfl rfl)
theorem dX5_refresh_99 : decode cX5_refresh 99 = .ok (.iload 4, 2) := dk_21 4 (dk_at dksX5_refresh_4 4 rfl rfl)
theorem dX5_refresh_101 : decode cX5_refresh 101 = .ok (.iload 6, 2) := dk_21 6 (dk_at dksX5_refresh_4 6 rfl rfl)
theorem dX5_refresh_103 : decode cX5_refresh 103 = .ok (.ifCond .eq 13, 3) := dk_153 0 13 (dk_at dksX5_refresh_4 8 rfl rfl)
theorem dX5_refresh_106 : decode cX5_refresh 106 = .ok (.aload_n 0, 1) := dk_42 (dk_at dksX5_refresh_4 11 rfl rfl)
theorem dX5_refresh_107 : decode cX5_refresh 107 = .ok (.getfield 241, 3) := dk_180 0 241 (dk_at dksX5_refresh_4 12 rfl rfl)
theorem dX5_refresh_110 : decode cX5_refresh 110 = .ok (.sipush 200, 3) := dk_17 0 200 (dk_at dksX5_refresh_4 15 rfl rfl)
theorem dX5_refresh_113 : decode cX5_refresh 113 = .ok (.if_icmp .ge 7, 3) := dk_162 0 7 (dk_at dksX5_refresh_4 18 rfl rfl)
theorem dX5_refresh_116 : decode cX5_refresh 116 = .ok (.iconst 1, 1) := dk_4 (dk_at dksX5_refresh_4 21 rfl rfl)
theorem dX5_refresh_117 : decode cX5_refresh 117 = .ok (.goto 4, 3) := dk_167 0 4 (dk_at dksX5_refresh_5 0 rfl rfl)
theorem dX5_refresh_120 : decode cX5_refresh 120 = .ok (.iconst 0, 1) := dk_3 (dk_at dksX5_refresh_5 3 rfl rfl)
theorem dX5_refresh_121 : decode cX5_refresh 121 = .ok (.invokevirtual 344, 3) := dk_182 1 88 (dk_at dksX5_refresh_5 4 rfl rfl)
theorem dX5_refresh_124 : decode cX5_refresh 124 = .ok (.ifCond .ne 5, 3) := dk_154 0 5 (dk_at dksX5_refresh_5 7 rfl rfl)
theorem dX5_refresh_127 : decode cX5_refresh 127 = .ok (.iconst 0, 1) := dk_3 (dk_at dksX5_refresh_5 10 rfl rfl)
theorem dX5_refresh_128 : decode cX5_refresh 128 = .ok (.ireturn, 1) := dk_172 (dk_at dksX5_refresh_5 11 rfl rfl)
theorem dX5_refresh_129 : decode cX5_refresh 129 = .ok (.iload 5, 2) := dk_21 5 (dk_at dksX5_refresh_5 12 rfl rfl)
theorem dX5_refresh_131 : decode cX5_refresh 131 = .ok (.ifCond .ne 5, 3) := dk_154 0 5 (dk_at dksX5_refresh_5 14 rfl rfl)
theorem dX5_refresh_134 : decode cX5_refresh 134 = .ok (.iconst (-1), 1) := dk_2 (dk_at dksX5_refresh_5 17 rfl rfl)
theorem dX5_refresh_135 : decode cX5_refresh 135 = .ok (.ireturn, 1) := dk_172 (dk_at dksX5_refresh_5 18 rfl rfl)
theorem dX5_refresh_136 : decode cX5_refresh 136 = .ok (.iload 6, 2) := dk_21 6 (dk_at dksX5_refresh_5 19 rfl rfl)
theorem dX5_refresh_138 : decode cX5_refresh 138 = .ok (.ifCond .eq 55, 3) := dk_153 0 55 (dk_at dksX5_refresh_5 21 rfl rfl)
theorem dX5_refresh_141 : decode cX5_refresh 141 = .ok (.aload_n 0, 1) := dk_42 (dk_at dksX5_refresh_6 0 rfl rfl)
theorem dX5_refresh_142 : decode cX5_refresh 142 = .ok (.getfield 137, 3) := dk_180 0 137 (dk_at dksX5_refresh_6 1 rfl rfl)
theorem dX5_refresh_145 : decode cX5_refresh 145 = .ok (.iload_n 1, 1) := dk_27 (dk_at dksX5_refresh_6 4 rfl rfl)
theorem dX5_refresh_146 : decode cX5_refresh 146 = .ok (.dup2, 1) := dk_92 (dk_at dksX5_refresh_6 5 rfl rfl)
theorem dX5_refresh_147 : decode cX5_refresh 147 = .ok (.iaload, 1) := dk_46 (dk_at dksX5_refresh_6 6 rfl rfl)
theorem dX5_refresh_148 : decode cX5_refresh 148 = .ok (.iconst 1, 1) := dk_4 (dk_at dksX5_refresh_6 7 rfl rfl)
theorem dX5_refresh_149 : decode cX5_refresh 149 = .ok (.iadd, 1) := dk_96 (dk_at dksX5_refresh_6 8 rfl rfl)
theorem dX5_refresh_150 : decode cX5_refresh 150 = .ok (.iastore, 1) := dk_79 (dk_at dksX5_refresh_6 9 rfl rfl)
theorem dX5_refresh_151 : decode cX5_refresh 151 = .ok (.aload_n 0, 1) := dk_42 (dk_at dksX5_refresh_6 10 rfl rfl)
theorem dX5_refresh_152 : decode cX5_refresh 152 = .ok (.getfield 140, 3) := dk_180 0 140 (dk_at dksX5_refresh_6 11 rfl rfl)
theorem dX5_refresh_155 : decode cX5_refresh 155 = .ok (.iload_n 1, 1) := dk_27 (dk_at dksX5_refresh_6 14 rfl rfl)
theorem dX5_refresh_156 : decode cX5_refresh 156 = .ok (.aload_n 0, 1) := dk_42 (dk_at dksX5_refresh_6 15 rfl rfl)
theorem dX5_refresh_157 : decode cX5_refresh 157 = .ok (.getfield 247, 3) := dk_180 0 247 (dk_at dksX5_refresh_6 16 rfl rfl)
theorem dX5_refresh_160 : decode cX5_refresh 160 = .ok (.iastore, 1) := dk_79 (dk_at dksX5_refresh_6 19 rfl rfl)
theorem dX5_refresh_161 : decode cX5_refresh 161 = .ok (.aload_n 0, 1) := dk_42 (dk_at dksX5_refresh_6 20 rfl rfl)
theorem dX5_refresh_162 : decode cX5_refresh 162 = .ok (.iload_n 1, 1) := dk_27 (dk_at dksX5_refresh_6 21 rfl rfl)
theorem dX5_refresh_163 : decode cX5_refresh 163 = .ok (.invokevirtual 368, 3) := dk_182 1 112 (dk_at dksX5_refresh_7 0 rfl rfl)
theorem dX5_refresh_166 : decode cX5_refresh 166 = .ok (.aload_n 0, 1) := dk_42 (dk_at dksX5_refresh_7 3 rfl rfl)
theorem dX5_refresh_167 : decode cX5_refresh 167 = .ok (.getfield 98, 3) := dk_180 0 98 (dk_at dksX5_refresh_7 4 rfl rfl)
theorem dX5_refresh_170 : decode cX5_refresh 170 = .ok (.aload_n 0, 1) := dk_42 (dk_at dksX5_refresh_7 7 rfl rfl)
theorem dX5_refresh_171 : decode cX5_refresh 171 = .ok (.getfield 116, 3) := dk_180 0 116 (dk_at dksX5_refresh_7 8 rfl rfl)
theorem dX5_refresh_174 : decode cX5_refresh 174 = .ok (.aload_n 0, 1) := dk_42 (dk_at dksX5_refresh_7 11 rfl rfl)
theorem dX5_refresh_175 : decode cX5_refresh 175 = .ok (.getfield 134, 3) := dk_180 0 134 (dk_at dksX5_refresh_7 12 rfl rfl)
theorem dX5_refresh_178 : decode cX5_refresh 178 = .ok (.iload_n 1, 1) := dk_27 (dk_at dksX5_refresh_7 15 rfl rfl)
theorem dX5_refresh_179 : decode cX5_refresh 179 = .ok (.iaload, 1) := dk_46 (dk_at dksX5_refresh_7 16 rfl rfl)
theorem dX5_refresh_180 : decode cX5_refresh 180 = .ok (.iaload, 1) := dk_46 (dk_at dksX5_refresh_7 17 rfl rfl)
theorem dX5_refresh_181 : decode cX5_refresh 181 = .ok (.aload_n 0, 1) := dk_42 (dk_at dksX5_refresh_7 18 rfl rfl)
theorem dX5_refresh_182 : decode cX5_refresh 182 = .ok (.getfield 247, 3) := dk_180 0 247 (dk_at dksX5_refresh_7 19 rfl rfl)
theorem dX5_refresh_185 : decode cX5_refresh 185 = .ok (.iastore, 1) := dk_79 (dk_at dksX5_refresh_7 22 rfl rfl)
theorem dX5_refresh_186 : decode cX5_refresh 186 = .ok (.aload_n 0, 1) := dk_42 (dk_at dksX5_refresh_7 23 rfl rfl)
theorem dX5_refresh_187 : decode cX5_refresh 187 = .ok (.getfield 137, 3) := dk_180 0 137 (dk_at dksX5_refresh_8 0 rfl rfl)
theorem dX5_refresh_190 : decode cX5_refresh 190 = .ok (.iload_n 1, 1) := dk_27 (dk_at dksX5_refresh_8 3 rfl rfl)
theorem dX5_refresh_191 : decode cX5_refresh 191 = .ok (.iaload, 1) := dk_46 (dk_at dksX5_refresh_8 4 rfl rfl)
theorem dX5_refresh_192 : decode cX5_refresh 192 = .ok (.ireturn, 1) := dk_172 (dk_at dksX5_refresh_8 5 rfl rfl)
theorem dX5_refresh_193 : decode cX5_refresh 193 = .ok (.iload_n 2, 1) := dk_28 (dk_at dksX5_refresh_8 6 rfl rfl)
theorem dX5_refresh_194 : decode cX5_refresh 194 = .ok (.aload_n 0, 1) := dk_42 (dk_at dksX5_refresh_8 7 rfl rfl)
theorem dX5_refresh_195 : decode cX5_refresh 195 = .ok (.getfield 137, 3) := dk_180 0 137 (dk_at dksX5_refresh_8 8 rfl rfl)
theorem dX5_refresh_198 : decode cX5_refresh 198 = .ok (.iload_n 1, 1) := dk_27 (dk_at dksX5_refresh_8 11 rfl rfl)
theorem dX5_refresh_199 : decode cX5_refresh 199 = .ok (.iaload, 1) := dk_46 (dk_at dksX5_refresh_8 12 rfl rfl)
theorem dX5_refresh_200 : decode cX5_refresh 200 = .ok (.iconst 1, 1) := dk_4 (dk_at dksX5_refresh_8 13 rfl rfl)
theorem dX5_refresh_201 : decode cX5_refresh 201 = .ok (.isub, 1) := dk_100 (dk_at dksX5_refresh_8 14 rfl rfl)
theorem dX5_refresh_202 : decode cX5_refresh 202 = .ok (.if_icmp .ne 25, 3) := dk_160 0 25 (dk_at dksX5_refresh_8 15 rfl rfl)
theorem dX5_refresh_205 : decode cX5_refresh 205 = .ok (.aload_n 0, 1) := dk_42 (dk_at dksX5_refresh_8 18 rfl rfl)
theorem dX5_refresh_206 : decode cX5_refresh 206 = .ok (.getfield 247, 3) := dk_180 0 247 (dk_at dksX5_refresh_8 19 rfl rfl)
theorem dX5_refresh_209 : decode cX5_refresh 209 = .ok (.aload_n 0, 1) := dk_42 (dk_at dksX5_refresh_8 22 rfl rfl)
theorem dX5_refresh_210 : decode cX5_refresh 210 = .ok (.getfield 140, 3) := dk_180 0 140 (dk_at dksX5_refresh_9 0 rfl rfl)
theorem dX5_refresh_213 : decode cX5_refresh 213 = .ok (.iload_n 1, 1) := dk_27 (dk_at dksX5_refresh_9 3 rfl rfl)
theorem dX5_refresh_214 : decode cX5_refresh 214 = .ok (.iaload, 1) := dk_46 (dk_at dksX5_refresh_9 4 rfl rfl)
theorem dX5_refresh_215 : decode cX5_refresh 215 = .ok (.isub, 1) := dk_100 (dk_at dksX5_refresh_9 5 rfl rfl)
theorem dX5_refresh_216 : decode cX5_refresh 216 = .ok (.iconst 1, 1) := dk_4 (dk_at dksX5_refresh_9 6 rfl rfl)
theorem dX5_refresh_217 : decode cX5_refresh 217 = .ok (.if_icmp .gt 10, 3) := dk_163 0 10 (dk_at dksX5_refresh_9 7 rfl rfl)
theorem dX5_refresh_220 : decode cX5_refresh 220 = .ok (.aload_n 0, 1) := dk_42 (dk_at dksX5_refresh_9 10 rfl rfl)
theorem dX5_refresh_221 : decode cX5_refresh 221 = .ok (.getfield 137, 3) := dk_180 0 137 (dk_at dksX5_refresh_9 11 rfl rfl)
theorem dX5_refresh_224 : decode cX5_refresh 224 = .ok (.iload_n 1, 1) := dk_27 (dk_at dksX5_refresh_9 14 rfl rfl)
theorem dX5_refresh_225 : decode cX5_refresh 225 = .ok (.iaload, 1) := dk_46 (dk_at dksX5_refresh_9 15 rfl rfl)
theorem dX5_refresh_226 : decode cX5_refresh 226 = .ok (.ireturn, 1) := dk_172 (dk_at dksX5_refresh_9 16 rfl rfl)
theorem dX5_refresh_227 : decode cX5_refresh 227 = .ok (.aload_n 0, 1) := dk_42 (dk_at dksX5_refresh_9 17 rfl rfl)
theorem dX5_refresh_228 : decode cX5_refresh 228 = .ok (.iload_n 1, 1) := dk_27 (dk_at dksX5_refresh_9 18 rfl rfl)
theorem dX5_refresh_229 : decode cX5_refresh 229 = .ok (.invokevirtual 263, 3) := dk_182 1 7 (dk_at dksX5_refresh_9 19 rfl rfl)
theorem dX5_refresh_232 : decode cX5_refresh 232 = .ok (.iconst (-1), 1) := dk_2 (dk_at dksX5_refresh_9 22 rfl rfl)
theorem dX5_refresh_233 : decode cX5_refresh 233 = .ok (.ireturn, 1) := dk_172 (dk_at dksX5_refresh_9 23 rfl rfl)
abbrev cX5_isFamily : ByteArray := prog_14_method_12_code
def yX5_isFamily : MethodName := ⟨RX5, "isFamily", "(I)Z"⟩
def dkwX5_isFamily_0 : List UInt8 := [27, 3, 42, 180, 0, 238, 4, 100, 184, 0, 228, 172]
abbrev dktX5_isFamily_0 : List UInt8 := dkwX5_isFamily_0 ++ []
theorem dksX5_isFamily_0 : cX5_isFamily.data.toList.drop 0 = dktX5_isFamily_0 := by decide +kernel
theorem dX5_isFamily_0 : decode cX5_isFamily 0 = .ok (.iload_n 1, 1) := dk_27 (dk_at dksX5_isFamily_0 0 rfl rfl)
theorem dX5_isFamily_1 : decode cX5_isFamily 1 = .ok (.iconst 0, 1) := dk_3 (dk_at dksX5_isFamily_0 1 rfl rfl)
theorem dX5_isFamily_2 : decode cX5_isFamily 2 = .ok (.aload_n 0, 1) := dk_42 (dk_at dksX5_isFamily_0 2 rfl rfl)
theorem dX5_isFamily_3 : decode cX5_isFamily 3 = .ok (.getfield 238, 3) := dk_180 0 238 (dk_at dksX5_isFamily_0 3 rfl rfl)
theorem dX5_isFamily_6 : decode cX5_isFamily 6 = .ok (.iconst 1, 1) := dk_4 (dk_at dksX5_isFamily_0 6 rfl rfl)
theorem dX5_isFamily_7 : decode cX5_isFamily 7 = .ok (.isub, 1) := dk_100 (dk_at dksX5_isFamily_0 7 rfl rfl)
theorem dX5_isFamily_8 : decode cX5_isFamily 8 = .ok (.invokestatic 228, 3) := dk_184 0 228 (dk_at dksX5_isFamily_0 8 rfl rfl)
theorem dX5_isFamily_11 : decode cX5_isFamily 11 = .ok (.ireturn, 1) := dk_172 (dk_at dksX5_isFamily_0 11 rfl rfl)
abbrev cX5_isGood : ByteArray := prog_14_method_73_code
def yX5_isGood : MethodName := ⟨RX5, "isGood", "(I)Z"⟩
def dkwX5_isGood_1 : List UInt8 := [167, 0, 4, 3, 172]
abbrev dktX5_isGood_1 : List UInt8 := dkwX5_isGood_1 ++ []
def dkwX5_isGood_0 : List UInt8 := [42, 42, 27, 182, 1, 115, 182, 0, 251, 153, 0, 16, 42, 180, 0, 146, 27, 51, 153, 0, 7, 4]
abbrev dktX5_isGood_0 : List UInt8 := dkwX5_isGood_0 ++ dktX5_isGood_1
theorem dksX5_isGood_0 : cX5_isGood.data.toList.drop 0 = dktX5_isGood_0 := by decide +kernel
theorem dksX5_isGood_1 : cX5_isGood.data.toList.drop 22 = dktX5_isGood_1 := dk_seg dksX5_isGood_0 22 rfl rfl
theorem dX5_isGood_0 : decode cX5_isGood 0 = .ok (.aload_n 0, 1) := dk_42 (dk_at dksX5_isGood_0 0 rfl rfl)
theorem dX5_isGood_1 : decode cX5_isGood 1 = .ok (.aload_n 0, 1) := dk_42 (dk_at dksX5_isGood_0 1 rfl rfl)
theorem dX5_isGood_2 : decode cX5_isGood 2 = .ok (.iload_n 1, 1) := dk_27 (dk_at dksX5_isGood_0 2 rfl rfl)
theorem dX5_isGood_3 : decode cX5_isGood 3 = .ok (.invokevirtual 371, 3) := dk_182 1 115 (dk_at dksX5_isGood_0 3 rfl rfl)
theorem dX5_isGood_6 : decode cX5_isGood 6 = .ok (.invokevirtual 251, 3) := dk_182 0 251 (dk_at dksX5_isGood_0 6 rfl rfl)
theorem dX5_isGood_9 : decode cX5_isGood 9 = .ok (.ifCond .eq 16, 3) := dk_153 0 16 (dk_at dksX5_isGood_0 9 rfl rfl)
theorem dX5_isGood_12 : decode cX5_isGood 12 = .ok (.aload_n 0, 1) := dk_42 (dk_at dksX5_isGood_0 12 rfl rfl)
theorem dX5_isGood_13 : decode cX5_isGood 13 = .ok (.getfield 146, 3) := dk_180 0 146 (dk_at dksX5_isGood_0 13 rfl rfl)
theorem dX5_isGood_16 : decode cX5_isGood 16 = .ok (.iload_n 1, 1) := dk_27 (dk_at dksX5_isGood_0 16 rfl rfl)
theorem dX5_isGood_17 : decode cX5_isGood 17 = .ok (.baload, 1) := dk_51 (dk_at dksX5_isGood_0 17 rfl rfl)
theorem dX5_isGood_18 : decode cX5_isGood 18 = .ok (.ifCond .eq 7, 3) := dk_153 0 7 (dk_at dksX5_isGood_0 18 rfl rfl)
theorem dX5_isGood_21 : decode cX5_isGood 21 = .ok (.iconst 1, 1) := dk_4 (dk_at dksX5_isGood_0 21 rfl rfl)
theorem dX5_isGood_22 : decode cX5_isGood 22 = .ok (.goto 4, 3) := dk_167 0 4 (dk_at dksX5_isGood_1 0 rfl rfl)
theorem dX5_isGood_25 : decode cX5_isGood 25 = .ok (.iconst 0, 1) := dk_3 (dk_at dksX5_isGood_1 3 rfl rfl)
theorem dX5_isGood_26 : decode cX5_isGood 26 = .ok (.ireturn, 1) := dk_172 (dk_at dksX5_isGood_1 4 rfl rfl)
abbrev cX5_tokenOf : ByteArray := prog_14_method_74_code
def yX5_tokenOf : MethodName := ⟨RX5, "tokenOf", "(I)I"⟩
def dkwX5_tokenOf_0 : List UInt8 := [42, 42, 27, 182, 1, 115, 182, 0, 251, 153, 0, 12, 42, 180, 0, 143, 27, 46, 167, 0, 4, 3, 172]
abbrev dktX5_tokenOf_0 : List UInt8 := dkwX5_tokenOf_0 ++ []
theorem dksX5_tokenOf_0 : cX5_tokenOf.data.toList.drop 0 = dktX5_tokenOf_0 := by decide +kernel
theorem dX5_tokenOf_0 : decode cX5_tokenOf 0 = .ok (.aload_n 0, 1) := dk_42 (dk_at dksX5_tokenOf_0 0 rfl rfl)
theorem dX5_tokenOf_1 : decode cX5_tokenOf 1 = .ok (.aload_n 0, 1) := dk_42 (dk_at dksX5_tokenOf_0 1 rfl rfl)
theorem dX5_tokenOf_2 : decode cX5_tokenOf 2 = .ok (.iload_n 1, 1) := dk_27 (dk_at dksX5_tokenOf_0 2 rfl rfl)
theorem dX5_tokenOf_3 : decode cX5_tokenOf 3 = .ok (.invokevirtual 371, 3) := dk_182 1 115 (dk_at dksX5_tokenOf_0 3 rfl rfl)
theorem dX5_tokenOf_6 : decode cX5_tokenOf 6 = .ok (.invokevirtual 251, 3) := dk_182 0 251 (dk_at dksX5_tokenOf_0 6 rfl rfl)
theorem dX5_tokenOf_9 : decode cX5_tokenOf 9 = .ok (.ifCond .eq 12, 3) := dk_153 0 12 (dk_at dksX5_tokenOf_0 9 rfl rfl)
theorem dX5_tokenOf_12 : decode cX5_tokenOf 12 = .ok (.aload_n 0, 1) := dk_42 (dk_at dksX5_tokenOf_0 12 rfl rfl)
theorem dX5_tokenOf_13 : decode cX5_tokenOf 13 = .ok (.getfield 143, 3) := dk_180 0 143 (dk_at dksX5_tokenOf_0 13 rfl rfl)
theorem dX5_tokenOf_16 : decode cX5_tokenOf 16 = .ok (.iload_n 1, 1) := dk_27 (dk_at dksX5_tokenOf_0 16 rfl rfl)
theorem dX5_tokenOf_17 : decode cX5_tokenOf 17 = .ok (.iaload, 1) := dk_46 (dk_at dksX5_tokenOf_0 17 rfl rfl)
theorem dX5_tokenOf_18 : decode cX5_tokenOf 18 = .ok (.goto 4, 3) := dk_167 0 4 (dk_at dksX5_tokenOf_0 18 rfl rfl)
theorem dX5_tokenOf_21 : decode cX5_tokenOf 21 = .ok (.iconst 0, 1) := dk_3 (dk_at dksX5_tokenOf_0 21 rfl rfl)
theorem dX5_tokenOf_22 : decode cX5_tokenOf 22 = .ok (.ireturn, 1) := dk_172 (dk_at dksX5_tokenOf_0 22 rfl rfl)
abbrev cX5_exchange : ByteArray := prog_14_method_75_code
def yX5_exchange : MethodName := ⟨RX5, "exchange", "(III)I"⟩
def dkwX5_exchange_8 : List UInt8 := [180, 0, 167, 27, 46, 182, 1, 108, 172]
abbrev dktX5_exchange_8 : List UInt8 := dkwX5_exchange_8 ++ []
def dkwX5_exchange_7 : List UInt8 := [16, 254, 172, 42, 21, 7, 42, 180, 0, 152, 27, 46, 28, 29, 42, 180, 0, 158, 27, 46, 4, 96, 42]
abbrev dktX5_exchange_7 : List UInt8 := dkwX5_exchange_7 ++ dktX5_exchange_8
def dkwX5_exchange_6 : List UInt8 := [180, 0, 116, 42, 180, 0, 134, 21, 7, 46, 46, 182, 1, 99, 42, 180, 0, 113, 28, 46, 162, 0, 6]
abbrev dktX5_exchange_6 : List UInt8 := dkwX5_exchange_6 ++ dktX5_exchange_7
def dkwX5_exchange_5 : List UInt8 := [21, 5, 21, 6, 182, 1, 88, 154, 0, 5, 3, 172, 42, 180, 0, 161, 27, 46, 54, 7, 42, 42]
abbrev dktX5_exchange_5 : List UInt8 := dkwX5_exchange_5 ++ dktX5_exchange_6
def dkwX5_exchange_4 : List UInt8 := [6, 162, 0, 17, 42, 180, 0, 241, 17, 0, 200, 162, 0, 7, 4, 167, 0, 4, 3, 54, 6, 42, 21, 4]
abbrev dktX5_exchange_4 : List UInt8 := dkwX5_exchange_4 ++ dktX5_exchange_5
def dkwX5_exchange_3 : List UInt8 := [46, 163, 0, 41, 42, 180, 0, 146, 42, 180, 0, 161, 27, 46, 51, 153, 0, 27, 42, 180, 0, 158, 27, 46]
abbrev dktX5_exchange_3 : List UInt8 := dkwX5_exchange_3 ++ dktX5_exchange_4
def dkwX5_exchange_2 : List UInt8 := [154, 0, 7, 4, 167, 0, 4, 3, 54, 5, 21, 4, 153, 0, 54, 42, 180, 0, 247, 42, 180, 0, 167, 27]
abbrev dktX5_exchange_2 : List UInt8 := dkwX5_exchange_2 ++ dktX5_exchange_3
def dkwX5_exchange_1 : List UInt8 := [153, 0, 30, 29, 4, 16, 15, 184, 0, 228, 153, 0, 20, 29, 42, 180, 0, 155, 27, 46, 2, 130, 126]
abbrev dktX5_exchange_1 : List UInt8 := dkwX5_exchange_1 ++ dktX5_exchange_2
def dkwX5_exchange_0 : List UInt8 := [42, 27, 182, 1, 118, 153, 0, 14, 28, 184, 1, 102, 153, 0, 7, 4, 167, 0, 4, 3, 54, 4, 21, 4]
abbrev dktX5_exchange_0 : List UInt8 := dkwX5_exchange_0 ++ dktX5_exchange_1
theorem dksX5_exchange_0 : cX5_exchange.data.toList.drop 0 = dktX5_exchange_0 := by decide +kernel
theorem dksX5_exchange_1 : cX5_exchange.data.toList.drop 24 = dktX5_exchange_1 := dk_seg dksX5_exchange_0 24 rfl rfl
theorem dksX5_exchange_2 : cX5_exchange.data.toList.drop 47 = dktX5_exchange_2 := dk_seg dksX5_exchange_1 23 rfl rfl
theorem dksX5_exchange_3 : cX5_exchange.data.toList.drop 71 = dktX5_exchange_3 := dk_seg dksX5_exchange_2 24 rfl rfl
theorem dksX5_exchange_4 : cX5_exchange.data.toList.drop 95 = dktX5_exchange_4 := dk_seg dksX5_exchange_3 24 rfl rfl
theorem dksX5_exchange_5 : cX5_exchange.data.toList.drop 119 = dktX5_exchange_5 := dk_seg dksX5_exchange_4 24 rfl rfl
theorem dksX5_exchange_6 : cX5_exchange.data.toList.drop 141 = dktX5_exchange_6 := dk_seg dksX5_exchange_5 22 rfl rfl
theorem dksX5_exchange_7 : cX5_exchange.data.toList.drop 164 = dktX5_exchange_7 := dk_seg dksX5_exchange_6 23 rfl rfl
theorem dksX5_exchange_8 : cX5_exchange.data.toList.drop 187 = dktX5_exchange_8 := dk_seg dksX5_exchange_7 23 rfl rfl
theorem dX5_exchange_0 : decode cX5_exchange 0 = .ok (.aload_n 0, 1) := dk_42 (dk_at dksX5_exchange_0 0 rfl rfl)
theorem dX5_exchange_1 : decode cX5_exchange 1 = .ok (.iload_n 1, 1) := dk_27 (dk_at dksX5_exchange_0 1 rfl rfl)
theorem dX5_exchange_2 : decode cX5_exchange 2 = .ok (.invokevirtual 374, 3) := dk_182 1 118 (dk_at dksX5_exchange_0 2 rfl rfl)
theorem dX5_exchange_5 : decode cX5_exchange 5 = .ok (.ifCond .eq 14, 3) := dk_153 0 14 (dk_at dksX5_exchange_0 5 rfl rfl)
theorem dX5_exchange_8 : decode cX5_exchange 8 = .ok (.iload_n 2, 1) := dk_28 (dk_at dksX5_exchange_0 8 rfl rfl)
theorem dX5_exchange_9 : decode cX5_exchange 9 = .ok (.invokestatic 358, 3) := dk_184 1 102 (dk_at dksX5_exchange_0 9 rfl rfl)
theorem dX5_exchange_12 : decode cX5_exchange 12 = .ok (.ifCond .eq 7, 3) := dk_153 0 7 (dk_at dksX5_exchange_0 12 rfl rfl)
theorem dX5_exchange_15 : decode cX5_exchange 15 = .ok (.iconst 1, 1) := dk_4 (dk_at dksX5_exchange_0 15 rfl rfl)
theorem dX5_exchange_16 : decode cX5_exchange 16 = .ok (.goto 4, 3) := dk_167 0 4 (dk_at dksX5_exchange_0 16 rfl rfl)
theorem dX5_exchange_19 : decode cX5_exchange 19 = .ok (.iconst 0, 1) := dk_3 (dk_at dksX5_exchange_0 19 rfl rfl)
theorem dX5_exchange_20 : decode cX5_exchange 20 = .ok (.istore 4, 2) := dk_54 4 (dk_at dksX5_exchange_0 20 rfl rfl)
theorem dX5_exchange_22 : decode cX5_exchange 22 = .ok (.iload 4, 2) := dk_21 4 (dk_at dksX5_exchange_0 22 rfl rfl)
theorem dX5_exchange_24 : decode cX5_exchange 24 = .ok (.ifCond .eq 30, 3) := dk_153 0 30 (dk_at dksX5_exchange_1 0 rfl rfl)
theorem dX5_exchange_27 : decode cX5_exchange 27 = .ok (.iload_n 3, 1) := dk_29 (dk_at dksX5_exchange_1 3 rfl rfl)
theorem dX5_exchange_28 : decode cX5_exchange 28 = .ok (.iconst 1, 1) := dk_4 (dk_at dksX5_exchange_1 4 rfl rfl)
theorem dX5_exchange_29 : decode cX5_exchange 29 = .ok (.bipush 15, 2) := dk_16 15 (dk_at dksX5_exchange_1 5 rfl rfl)
theorem dX5_exchange_31 : decode cX5_exchange 31 = .ok (.invokestatic 228, 3) := dk_184 0 228 (dk_at dksX5_exchange_1 7 rfl rfl)
theorem dX5_exchange_34 : decode cX5_exchange 34 = .ok (.ifCond .eq 20, 3) := dk_153 0 20 (dk_at dksX5_exchange_1 10 rfl rfl)
theorem dX5_exchange_37 : decode cX5_exchange 37 = .ok (.iload_n 3, 1) := dk_29 (dk_at dksX5_exchange_1 13 rfl rfl)
theorem dX5_exchange_38 : decode cX5_exchange 38 = .ok (.aload_n 0, 1) := dk_42 (dk_at dksX5_exchange_1 14 rfl rfl)
theorem dX5_exchange_39 : decode cX5_exchange 39 = .ok (.getfield 155, 3) := dk_180 0 155 (dk_at dksX5_exchange_1 15 rfl rfl)
theorem dX5_exchange_42 : decode cX5_exchange 42 = .ok (.iload_n 1, 1) := dk_27 (dk_at dksX5_exchange_1 18 rfl rfl)
theorem dX5_exchange_43 : decode cX5_exchange 43 = .ok (.iaload, 1) := dk_46 (dk_at dksX5_exchange_1 19 rfl rfl)
theorem dX5_exchange_44 : decode cX5_exchange 44 = .ok (.iconst (-1), 1) := dk_2 (dk_at dksX5_exchange_1 20 rfl rfl)
theorem dX5_exchange_45 : decode cX5_exchange 45 = .ok (.ixor, 1) := dk_130 (dk_at dksX5_exchange_1 21 rfl rfl)
theorem dX5_exchange_46 : decode cX5_exchange 46 = .ok (.iand, 1) := dk_126 (dk_at dksX5_exchange_1 22 rfl rfl)
theorem dX5_exchange_47 : decode cX5_exchange 47 = .ok (.ifCond .ne 7, 3) := dk_154 0 7 (dk_at dksX5_exchange_2 0 rfl rfl)
theorem dX5_exchange_50 : decode cX5_exchange 50 = .ok (.iconst 1, 1) := dk_4 (dk_at dksX5_exchange_2 3 rfl rfl)
theorem dX5_exchange_51 : decode cX5_exchange 51 = .ok (.goto 4, 3) := dk_167 0 4 (dk_at dksX5_exchange_2 4 rfl rfl)
theorem dX5_exchange_54 : decode cX5_exchange 54 = .ok (.iconst 0, 1) := dk_3 (dk_at dksX5_exchange_2 7 rfl rfl)
theorem dX5_exchange_55 : decode cX5_exchange 55 = .ok (.istore 5, 2) := dk_54 5 (dk_at dksX5_exchange_2 8 rfl rfl)
theorem dX5_exchange_57 : decode cX5_exchange 57 = .ok (.iload 4, 2) := dk_21 4 (dk_at dksX5_exchange_2 10 rfl rfl)
theorem dX5_exchange_59 : decode cX5_exchange 59 = .ok (.ifCond .eq 54, 3) := dk_153 0 54 (dk_at dksX5_exchange_2 12 rfl rfl)
theorem dX5_exchange_62 : decode cX5_exchange 62 = .ok (.aload_n 0, 1) := dk_42 (dk_at dksX5_exchange_2 15 rfl rfl)
theorem dX5_exchange_63 : decode cX5_exchange 63 = .ok (.getfield 247, 3) := dk_180 0 247 (dk_at dksX5_exchange_2 16 rfl rfl)
theorem dX5_exchange_66 : decode cX5_exchange 66 = .ok (.aload_n 0, 1) := dk_42 (dk_at dksX5_exchange_2 19 rfl rfl)
theorem dX5_exchange_67 : decode cX5_exchange 67 = .ok (.getfield 167, 3) := dk_180 0 167 (dk_at dksX5_exchange_2 20 rfl rfl)
theorem dX5_exchange_70 : decode cX5_exchange 70 = .ok (.iload_n 1, 1) := dk_27 (dk_at dksX5_exchange_2 23 rfl rfl)
theorem dX5_exchange_71 : decode cX5_exchange 71 = .ok (.iaload, 1) := dk_46 (dk_at dksX5_exchange_3 0 rfl rfl)
theorem dX5_exchange_72 : decode cX5_exchange 72 = .ok (.if_icmp .gt 41, 3) := dk_163 0 41 (dk_at dksX5_exchange_3 1 rfl rfl)
theorem dX5_exchange_75 : decode cX5_exchange 75 = .ok (.aload_n 0, 1) := dk_42 (dk_at dksX5_exchange_3 4 rfl rfl)
theorem dX5_exchange_76 : decode cX5_exchange 76 = .ok (.getfield 146, 3) := dk_180 0 146 (dk_at dksX5_exchange_3 5 rfl rfl)
theorem dX5_exchange_79 : decode cX5_exchange 79 = .ok (.aload_n 0, 1) := dk_42 (dk_at dksX5_exchange_3 8 rfl rfl)
theorem dX5_exchange_80 : decode cX5_exchange 80 = .ok (.getfield 161, 3) := dk_180 0 161 (dk_at dksX5_exchange_3 9 rfl rfl)
theorem dX5_exchange_83 : decode cX5_exchange 83 = .ok (.iload_n 1, 1) := dk_27 (dk_at dksX5_exchange_3 12 rfl rfl)
theorem dX5_exchange_84 : decode cX5_exchange 84 = .ok (.iaload, 1) := dk_46 (dk_at dksX5_exchange_3 13 rfl rfl)
theorem dX5_exchange_85 : decode cX5_exchange 85 = .ok (.baload, 1) := dk_51 (dk_at dksX5_exchange_3 14 rfl rfl)
theorem dX5_exchange_86 : decode cX5_exchange 86 = .ok (.ifCond .eq 27, 3) := dk_153 0 27 (dk_at dksX5_exchange_3 15 rfl rfl)
theorem dX5_exchange_89 : decode cX5_exchange 89 = .ok (.aload_n 0, 1) := dk_42 (dk_at dksX5_exchange_3 18 rfl rfl)
theorem dX5_exchange_90 : decode cX5_exchange 90 = .ok (.getfield 158, 3) := dk_180 0 158 (dk_at dksX5_exchange_3 19 rfl rfl)
theorem dX5_exchange_93 : decode cX5_exchange 93 = .ok (.iload_n 1, 1) := dk_27 (dk_at dksX5_exchange_3 22 rfl rfl)
theorem dX5_exchange_94 : decode cX5_exchange 94 = .ok (.iaload, 1) := dk_46 (dk_at dksX5_exchange_3 23 rfl rfl)
theorem dX5_exchange_95 : decode cX5_exchange 95 = .ok (.iconst 3, 1) := dk_6 (dk_at dksX5_exchange_4 0 rfl rfl)
theorem dX5_exchange_96 : decode cX5_exchange 96 = .ok (.if_icmp .ge 17, 3) := dk_162 0 17 (dk_at dksX5_exchange_4 1 rfl rfl)
theorem dX5_exchange_99 : decode cX5_exchange 99 = .ok (.aload_n 0, 1) := dk_42 (dk_at dksX5_exchange_4 4 rfl rfl)
theorem dX5_exchange_100 : decode cX5_exchange 100 = .ok (.getfield 241, 3) := dk_180 0 241 (dk_at dksX5_exchange_4 5 rfl rfl)
theorem dX5_exchange_103 : decode cX5_exchange 103 = .ok (.sipush 200, 3) := dk_17 0 200 (dk_at dksX5_exchange_4 8 rfl rfl)
theorem dX5_exchange_106 : decode cX5_exchange 106 = .ok (.if_icmp .ge 7, 3) := dk_162 0 7 (dk_at dksX5_exchange_4 11 rfl rfl)
theorem dX5_exchange_109 : decode cX5_exchange 109 = .ok (.iconst 1, 1) := dk_4 (dk_at dksX5_exchange_4 14 rfl rfl)
theorem dX5_exchange_110 : decode cX5_exchange 110 = .ok (.goto 4, 3) := dk_167 0 4 (dk_at dksX5_exchange_4 15 rfl rfl)
theorem dX5_exchange_113 : decode cX5_exchange 113 = .ok (.iconst 0, 1) := dk_3 (dk_at dksX5_exchange_4 18 rfl rfl)
theorem dX5_exchange_114 : decode cX5_exchange 114 = .ok (.istore 6, 2) := dk_54 6 (dk_at dksX5_exchange_4 19 rfl rfl)
theorem dX5_exchange_116 : decode cX5_exchange 116 = .ok (.aload_n 0, 1) := dk_42 (dk_at dksX5_exchange_4 21 rfl rfl)
theorem dX5_exchange_117 : decode cX5_exchange 117 = .ok (.iload 4, 2) := dk_21 4 (dk_at dksX5_exchange_4 22 rfl rfl)
theorem dX5_exchange_119 : decode cX5_exchange 119 = .ok (.iload 5, 2) := dk_21 5 (dk_at dksX5_exchange_5 0 rfl rfl)
theorem dX5_exchange_121 : decode cX5_exchange 121 = .ok (.iload 6, 2) := dk_21 6 (dk_at dksX5_exchange_5 2 rfl rfl)
theorem dX5_exchange_123 : decode cX5_exchange 123 = .ok (.invokevirtual 344, 3) := dk_182 1 88 (dk_at dksX5_exchange_5 4 rfl rfl)
theorem dX5_exchange_126 : decode cX5_exchange 126 = .ok (.ifCond .ne 5, 3) := dk_154 0 5 (dk_at dksX5_exchange_5 7 rfl rfl)
theorem dX5_exchange_129 : decode cX5_exchange 129 = .ok (.iconst 0, 1) := dk_3 (dk_at dksX5_exchange_5 10 rfl rfl)
theorem dX5_exchange_130 : decode cX5_exchange 130 = .ok (.ireturn, 1) := dk_172 (dk_at dksX5_exchange_5 11 rfl rfl)
theorem dX5_exchange_131 : decode cX5_exchange 131 = .ok (.aload_n 0, 1) := dk_42 (dk_at dksX5_exchange_5 12 rfl rfl)
theorem dX5_exchange_132 : decode cX5_exchange 132 = .ok (.getfield 161, 3) := dk_180 0 161 (dk_at dksX5_exchange_5 13 rfl rfl)
theorem dX5_exchange_135 : decode cX5_exchange 135 = .ok (.iload_n 1, 1) := dk_27 (dk_at dksX5_exchange_5 16 rfl rfl)
theorem dX5_exchange_136 : decode cX5_exchange 136 = .ok (.iaload, 1) := dk_46 (dk_at dksX5_exchange_5 17 rfl rfl)
theorem dX5_exchange_137 : decode cX5_exchange 137 = .ok (.istore 7, 2) := dk_54 7 (dk_at dksX5_exchange_5 18 rfl rfl)
theorem dX5_exchange_139 : decode cX5_exchange 139 = .ok (.aload_n 0, 1) := dk_42 (dk_at dksX5_exchange_5 20 rfl rfl)
theorem dX5_exchange_140 : decode cX5_exchange 140 = .ok (.aload_n 0, 1) := dk_42 (dk_at dksX5_exchange_5 21 rfl rfl)
theorem dX5_exchange_141 : decode cX5_exchange 141 = .ok (.getfield 116, 3) := dk_180 0 116 (dk_at dksX5_exchange_6 0 rfl rfl)
theorem dX5_exchange_144 : decode cX5_exchange 144 = .ok (.aload_n 0, 1) := dk_42 (dk_at dksX5_exchange_6 3 rfl rfl)
theorem dX5_exchange_145 : decode cX5_exchange 145 = .ok (.getfield 134, 3) := dk_180 0 134 (dk_at dksX5_exchange_6 4 rfl rfl)
theorem dX5_exchange_148 : decode cX5_exchange 148 = .ok (.iload 7, 2) := dk_21 7 (dk_at dksX5_exchange_6 7 rfl rfl)
theorem dX5_exchange_150 : decode cX5_exchange 150 = .ok (.iaload, 1) := dk_46 (dk_at dksX5_exchange_6 9 rfl rfl)
theorem dX5_exchange_151 : decode cX5_exchange 151 = .ok (.iaload, 1) := dk_46 (dk_at dksX5_exchange_6 10 rfl rfl)
theorem dX5_exchange_152 : decode cX5_exchange 152 = .ok (.invokevirtual 355, 3) := dk_182 1 99 (dk_at dksX5_exchange_6 11 rfl rfl)
theorem dX5_exchange_155 : decode cX5_exchange 155 = .ok (.aload_n 0, 1) := dk_42 (dk_at dksX5_exchange_6 14 rfl rfl)
theorem dX5_exchange_156 : decode cX5_exchange 156 = .ok (.getfield 113, 3) := dk_180 0 113 (dk_at dksX5_exchange_6 15 rfl rfl)
theorem dX5_exchange_159 : decode cX5_exchange 159 = .ok (.iload_n 2, 1) := dk_28 (dk_at dksX5_exchange_6 18 rfl rfl)
theorem dX5_exchange_160 : decode cX5_exchange 160 = .ok (.iaload, 1) := dk_46 (dk_at dksX5_exchange_6 19 rfl rfl)
theorem dX5_exchange_161 : decode cX5_exchange 161 = .ok (.if_icmp .ge 6, 3) := dk_162 0 6 (dk_at dksX5_exchange_6 20 rfl rfl)
theorem dX5_exchange_164 : decode cX5_exchange 164 = .ok (.bipush (-2), 2) := dk_16 254 (dk_at dksX5_exchange_7 0 rfl rfl)
theorem dX5_exchange_166 : decode cX5_exchange 166 = .ok (.ireturn, 1) := dk_172 (dk_at dksX5_exchange_7 2 rfl rfl)
theorem dX5_exchange_167 : decode cX5_exchange 167 = .ok (.aload_n 0, 1) := dk_42 (dk_at dksX5_exchange_7 3 rfl rfl)
theorem dX5_exchange_168 : decode cX5_exchange 168 = .ok (.iload 7, 2) := dk_21 7 (dk_at dksX5_exchange_7 4 rfl rfl)
theorem dX5_exchange_170 : decode cX5_exchange 170 = .ok (.aload_n 0, 1) := dk_42 (dk_at dksX5_exchange_7 6 rfl rfl)
theorem dX5_exchange_171 : decode cX5_exchange 171 = .ok (.getfield 152, 3) := dk_180 0 152 (dk_at dksX5_exchange_7 7 rfl rfl)
theorem dX5_exchange_174 : decode cX5_exchange 174 = .ok (.iload_n 1, 1) := dk_27 (dk_at dksX5_exchange_7 10 rfl rfl)
theorem dX5_exchange_175 : decode cX5_exchange 175 = .ok (.iaload, 1) := dk_46 (dk_at dksX5_exchange_7 11 rfl rfl)
theorem dX5_exchange_176 : decode cX5_exchange 176 = .ok (.iload_n 2, 1) := dk_28 (dk_at dksX5_exchange_7 12 rfl rfl)
theorem dX5_exchange_177 : decode cX5_exchange 177 = .ok (.iload_n 3, 1) := dk_29 (dk_at dksX5_exchange_7 13 rfl rfl)
theorem dX5_exchange_178 : decode cX5_exchange 178 = .ok (.aload_n 0, 1) := dk_42 (dk_at dksX5_exchange_7 14 rfl rfl)
theorem dX5_exchange_179 : decode cX5_exchange 179 = .ok (.getfield 158, 3) := dk_180 0 158 (dk_at dksX5_exchange_7 15 rfl rfl)
theorem dX5_exchange_182 : decode cX5_exchange 182 = .ok (.iload_n 1, 1) := dk_27 (dk_at dksX5_exchange_7 18 rfl rfl)
theorem dX5_exchange_183 : decode cX5_exchange 183 = .ok (.iaload, 1) := dk_46 (dk_at dksX5_exchange_7 19 rfl rfl)
theorem dX5_exchange_184 : decode cX5_exchange 184 = .ok (.iconst 1, 1) := dk_4 (dk_at dksX5_exchange_7 20 rfl rfl)
theorem dX5_exchange_185 : decode cX5_exchange 185 = .ok (.iadd, 1) := dk_96 (dk_at dksX5_exchange_7 21 rfl rfl)
theorem dX5_exchange_186 : decode cX5_exchange 186 = .ok (.aload_n 0, 1) := dk_42 (dk_at dksX5_exchange_7 22 rfl rfl)
theorem dX5_exchange_187 : decode cX5_exchange 187 = .ok (.getfield 167, 3) := dk_180 0 167 (dk_at dksX5_exchange_8 0 rfl rfl)
theorem dX5_exchange_190 : decode cX5_exchange 190 = .ok (.iload_n 1, 1) := dk_27 (dk_at dksX5_exchange_8 3 rfl rfl)
theorem dX5_exchange_191 : decode cX5_exchange 191 = .ok (.iaload, 1) := dk_46 (dk_at dksX5_exchange_8 4 rfl rfl)
theorem dX5_exchange_192 : decode cX5_exchange 192 = .ok (.invokevirtual 364, 3) := dk_182 1 108 (dk_at dksX5_exchange_8 5 rfl rfl)
theorem dX5_exchange_195 : decode cX5_exchange 195 = .ok (.ireturn, 1) := dk_172 (dk_at dksX5_exchange_8 8 rfl rfl)
abbrev cX5_isToken : ByteArray := prog_14_method_13_code
def yX5_isToken : MethodName := ⟨RX5, "isToken", "(I)Z"⟩
def dkwX5_isToken_0 : List UInt8 := [27, 3, 42, 180, 0, 241, 4, 100, 184, 0, 228, 172]
abbrev dktX5_isToken_0 : List UInt8 := dkwX5_isToken_0 ++ []
theorem dksX5_isToken_0 : cX5_isToken.data.toList.drop 0 = dktX5_isToken_0 := by decide +kernel
theorem dX5_isToken_0 : decode cX5_isToken 0 = .ok (.iload_n 1, 1) := dk_27 (dk_at dksX5_isToken_0 0 rfl rfl)
theorem dX5_isToken_1 : decode cX5_isToken 1 = .ok (.iconst 0, 1) := dk_3 (dk_at dksX5_isToken_0 1 rfl rfl)
theorem dX5_isToken_2 : decode cX5_isToken 2 = .ok (.aload_n 0, 1) := dk_42 (dk_at dksX5_isToken_0 2 rfl rfl)
theorem dX5_isToken_3 : decode cX5_isToken 3 = .ok (.getfield 241, 3) := dk_180 0 241 (dk_at dksX5_isToken_0 3 rfl rfl)
theorem dX5_isToken_6 : decode cX5_isToken 6 = .ok (.iconst 1, 1) := dk_4 (dk_at dksX5_isToken_0 6 rfl rfl)
theorem dX5_isToken_7 : decode cX5_isToken 7 = .ok (.isub, 1) := dk_100 (dk_at dksX5_isToken_0 7 rfl rfl)
theorem dX5_isToken_8 : decode cX5_isToken 8 = .ok (.invokestatic 228, 3) := dk_184 0 228 (dk_at dksX5_isToken_0 8 rfl rfl)
theorem dX5_isToken_11 : decode cX5_isToken 11 = .ok (.ireturn, 1) := dk_172 (dk_at dksX5_isToken_0 11 rfl rfl)
abbrev cX5_token : ByteArray := prog_14_method_76_code
def yX5_token : MethodName := ⟨RX5, "token", "(I)I"⟩
def dkwX5_token_2 : List UInt8 := [96, 167, 0, 4, 3, 172]
abbrev dktX5_token_2 : List UInt8 := dkwX5_token_2 ++ []
def dkwX5_token_1 : List UInt8 := [42, 180, 0, 149, 27, 46, 104, 96, 16, 10, 42, 180, 0, 152, 27, 46, 104, 96, 42, 180, 0, 158, 27, 46]
abbrev dktX5_token_1 : List UInt8 := dkwX5_token_1 ++ dktX5_token_2
def dkwX5_token_0 : List UInt8 := [42, 42, 27, 182, 1, 118, 182, 0, 251, 153, 0, 43, 17, 3, 232, 42, 180, 0, 167, 27, 46, 104, 16, 100]
abbrev dktX5_token_0 : List UInt8 := dkwX5_token_0 ++ dktX5_token_1
theorem dksX5_token_0 : cX5_token.data.toList.drop 0 = dktX5_token_0 := by decide +kernel
theorem dksX5_token_1 : cX5_token.data.toList.drop 24 = dktX5_token_1 := dk_seg dksX5_token_0 24 rfl rfl
theorem dksX5_token_2 : cX5_token.data.toList.drop 48 = dktX5_token_2 := dk_seg dksX5_token_1 24 rfl rfl
theorem dX5_token_0 : decode cX5_token 0 = .ok (.aload_n 0, 1) := dk_42 (dk_at dksX5_token_0 0 rfl rfl)
theorem dX5_token_1 : decode cX5_token 1 = .ok (.aload_n 0, 1) := dk_42 (dk_at dksX5_token_0 1 rfl rfl)
theorem dX5_token_2 : decode cX5_token 2 = .ok (.iload_n 1, 1) := dk_27 (dk_at dksX5_token_0 2 rfl rfl)
theorem dX5_token_3 : decode cX5_token 3 = .ok (.invokevirtual 374, 3) := dk_182 1 118 (dk_at dksX5_token_0 3 rfl rfl)
theorem dX5_token_6 : decode cX5_token 6 = .ok (.invokevirtual 251, 3) := dk_182 0 251 (dk_at dksX5_token_0 6 rfl rfl)
theorem dX5_token_9 : decode cX5_token 9 = .ok (.ifCond .eq 43, 3) := dk_153 0 43 (dk_at dksX5_token_0 9 rfl rfl)
theorem dX5_token_12 : decode cX5_token 12 = .ok (.sipush 1000, 3) := dk_17 3 232 (dk_at dksX5_token_0 12 rfl rfl)
theorem dX5_token_15 : decode cX5_token 15 = .ok (.aload_n 0, 1) := dk_42 (dk_at dksX5_token_0 15 rfl rfl)
theorem dX5_token_16 : decode cX5_token 16 = .ok (.getfield 167, 3) := dk_180 0 167 (dk_at dksX5_token_0 16 rfl rfl)
theorem dX5_token_19 : decode cX5_token 19 = .ok (.iload_n 1, 1) := dk_27 (dk_at dksX5_token_0 19 rfl rfl)
theorem dX5_token_20 : decode cX5_token 20 = .ok (.iaload, 1) := dk_46 (dk_at dksX5_token_0 20 rfl rfl)
theorem dX5_token_21 : decode cX5_token 21 = .ok (.imul, 1) := dk_104 (dk_at dksX5_token_0 21 rfl rfl)
theorem dX5_token_22 : decode cX5_token 22 = .ok (.bipush 100, 2) := dk_16 100 (dk_at dksX5_token_0 22 rfl rfl)
theorem dX5_token_24 : decode cX5_token 24 = .ok (.aload_n 0, 1) := dk_42 (dk_at dksX5_token_1 0 rfl rfl)
theorem dX5_token_25 : decode cX5_token 25 = .ok (.getfield 149, 3) := dk_180 0 149 (dk_at dksX5_token_1 1 rfl rfl)
theorem dX5_token_28 : decode cX5_token 28 = .ok (.iload_n 1, 1) := dk_27 (dk_at dksX5_token_1 4 rfl rfl)
theorem dX5_token_29 : decode cX5_token 29 = .ok (.iaload, 1) := dk_46 (dk_at dksX5_token_1 5 rfl rfl)
theorem dX5_token_30 : decode cX5_token 30 = .ok (.imul, 1) := dk_104 (dk_at dksX5_token_1 6 rfl rfl)
theorem dX5_token_31 : decode cX5_token 31 = .ok (.iadd, 1) := dk_96 (dk_at dksX5_token_1 7 rfl rfl)
theorem dX5_token_32 : decode cX5_token 32 = .ok (.bipush 10, 2) := dk_16 10 (dk_at dksX5_token_1 8 rfl rfl)
theorem dX5_token_34 : decode cX5_token 34 = .ok (.aload_n 0, 1) := dk_42 (dk_at dksX5_token_1 10 rfl rfl)
theorem dX5_token_35 : decode cX5_token 35 = .ok (.getfield 152, 3) := dk_180 0 152 (dk_at dksX5_token_1 11 rfl rfl)
theorem dX5_token_38 : decode cX5_token 38 = .ok (.iload_n 1, 1) := dk_27 (dk_at dksX5_token_1 14 rfl rfl)
theorem dX5_token_39 : decode cX5_token 39 = .ok (.iaload, 1) := dk_46 (dk_at dksX5_token_1 15 rfl rfl)
theorem dX5_token_40 : decode cX5_token 40 = .ok (.imul, 1) := dk_104 (dk_at dksX5_token_1 16 rfl rfl)
theorem dX5_token_41 : decode cX5_token 41 = .ok (.iadd, 1) := dk_96 (dk_at dksX5_token_1 17 rfl rfl)
theorem dX5_token_42 : decode cX5_token 42 = .ok (.aload_n 0, 1) := dk_42 (dk_at dksX5_token_1 18 rfl rfl)
theorem dX5_token_43 : decode cX5_token 43 = .ok (.getfield 158, 3) := dk_180 0 158 (dk_at dksX5_token_1 19 rfl rfl)
theorem dX5_token_46 : decode cX5_token 46 = .ok (.iload_n 1, 1) := dk_27 (dk_at dksX5_token_1 22 rfl rfl)
theorem dX5_token_47 : decode cX5_token 47 = .ok (.iaload, 1) := dk_46 (dk_at dksX5_token_1 23 rfl rfl)
theorem dX5_token_48 : decode cX5_token 48 = .ok (.iadd, 1) := dk_96 (dk_at dksX5_token_2 0 rfl rfl)
theorem dX5_token_49 : decode cX5_token 49 = .ok (.goto 4, 3) := dk_167 0 4 (dk_at dksX5_token_2 1 rfl rfl)
theorem dX5_token_52 : decode cX5_token 52 = .ok (.iconst 0, 1) := dk_3 (dk_at dksX5_token_2 4 rfl rfl)
theorem dX5_token_53 : decode cX5_token 53 = .ok (.ireturn, 1) := dk_172 (dk_at dksX5_token_2 5 rfl rfl)
abbrev cX5_turn : ByteArray := prog_14_method_77_code
def yX5_turn : MethodName := ⟨RX5, "turn", "()I"⟩
def dkwX5_turn_2 : List UInt8 := [181, 1, 22, 42, 89, 180, 0, 170, 4, 96, 181, 0, 170, 42, 180, 0, 174, 172]
abbrev dktX5_turn_2 : List UInt8 := dkwX5_turn_2 ++ []
def dkwX5_turn_1 : List UInt8 := [182, 0, 251, 154, 0, 5, 3, 172, 42, 42, 180, 0, 170, 181, 0, 174, 42, 42, 180, 0, 247, 8, 96]
abbrev dktX5_turn_1 : List UInt8 := dkwX5_turn_1 ++ dktX5_turn_2
def dkwX5_turn_0 : List UInt8 := [42, 42, 180, 0, 174, 2, 160, 0, 16, 42, 180, 0, 170, 16, 20, 162, 0, 7, 4, 167, 0, 4, 3]
abbrev dktX5_turn_0 : List UInt8 := dkwX5_turn_0 ++ dktX5_turn_1
theorem dksX5_turn_0 : cX5_turn.data.toList.drop 0 = dktX5_turn_0 := by decide +kernel
theorem dksX5_turn_1 : cX5_turn.data.toList.drop 23 = dktX5_turn_1 := dk_seg dksX5_turn_0 23 rfl rfl
theorem dksX5_turn_2 : cX5_turn.data.toList.drop 46 = dktX5_turn_2 := dk_seg dksX5_turn_1 23 rfl rfl
theorem dX5_turn_0 : decode cX5_turn 0 = .ok (.aload_n 0, 1) := dk_42 (dk_at dksX5_turn_0 0 rfl rfl)
theorem dX5_turn_1 : decode cX5_turn 1 = .ok (.aload_n 0, 1) := dk_42 (dk_at dksX5_turn_0 1 rfl rfl)
theorem dX5_turn_2 : decode cX5_turn 2 = .ok (.getfield 174, 3) := dk_180 0 174 (dk_at dksX5_turn_0 2 rfl rfl)
theorem dX5_turn_5 : decode cX5_turn 5 = .ok (.iconst (-1), 1) := dk_2 (dk_at dksX5_turn_0 5 rfl rfl)
theorem dX5_turn_6 : decode cX5_turn 6 = .ok (.if_icmp .ne 16, 3) := dk_160 0 16 (dk_at dksX5_turn_0 6 rfl rfl)
theorem dX5_turn_9 : decode cX5_turn 9 = .ok (.aload_n 0, 1) := dk_42 (dk_at dksX5_turn_0 9 rfl rfl)
theorem dX5_turn_10 : decode cX5_turn 10 = .ok (.getfield 170, 3) := dk_180 0 170 (dk_at dksX5_turn_0 10 rfl rfl)
theorem dX5_turn_13 : decode cX5_turn 13 = .ok (.bipush 20, 2) := dk_16 20 (dk_at dksX5_turn_0 13 rfl rfl)
theorem dX5_turn_15 : decode cX5_turn 15 = .ok (.if_icmp .ge 7, 3) := dk_162 0 7 (dk_at dksX5_turn_0 15 rfl rfl)
theorem dX5_turn_18 : decode cX5_turn 18 = .ok (.iconst 1, 1) := dk_4 (dk_at dksX5_turn_0 18 rfl rfl)
theorem dX5_turn_19 : decode cX5_turn 19 = .ok (.goto 4, 3) := dk_167 0 4 (dk_at dksX5_turn_0 19 rfl rfl)
theorem dX5_turn_22 : decode cX5_turn 22 = .ok (.iconst 0, 1) := dk_3 (dk_at dksX5_turn_0 22 rfl rfl)
theorem dX5_turn_23 : decode cX5_turn 23 = .ok (.invokevirtual 251, 3) := dk_182 0 251 (dk_at dksX5_turn_1 0 rfl rfl)
theorem dX5_turn_26 : decode cX5_turn 26 = .ok (.ifCond .ne 5, 3) := dk_154 0 5 (dk_at dksX5_turn_1 3 rfl rfl)
theorem dX5_turn_29 : decode cX5_turn 29 = .ok (.iconst 0, 1) := dk_3 (dk_at dksX5_turn_1 6 rfl rfl)
theorem dX5_turn_30 : decode cX5_turn 30 = .ok (.ireturn, 1) := dk_172 (dk_at dksX5_turn_1 7 rfl rfl)
theorem dX5_turn_31 : decode cX5_turn 31 = .ok (.aload_n 0, 1) := dk_42 (dk_at dksX5_turn_1 8 rfl rfl)
theorem dX5_turn_32 : decode cX5_turn 32 = .ok (.aload_n 0, 1) := dk_42 (dk_at dksX5_turn_1 9 rfl rfl)
theorem dX5_turn_33 : decode cX5_turn 33 = .ok (.getfield 170, 3) := dk_180 0 170 (dk_at dksX5_turn_1 10 rfl rfl)
theorem dX5_turn_36 : decode cX5_turn 36 = .ok (.putfield 174, 3) := dk_181 0 174 (dk_at dksX5_turn_1 13 rfl rfl)
theorem dX5_turn_39 : decode cX5_turn 39 = .ok (.aload_n 0, 1) := dk_42 (dk_at dksX5_turn_1 16 rfl rfl)
theorem dX5_turn_40 : decode cX5_turn 40 = .ok (.aload_n 0, 1) := dk_42 (dk_at dksX5_turn_1 17 rfl rfl)
theorem dX5_turn_41 : decode cX5_turn 41 = .ok (.getfield 247, 3) := dk_180 0 247 (dk_at dksX5_turn_1 18 rfl rfl)
theorem dX5_turn_44 : decode cX5_turn 44 = .ok (.iconst 5, 1) := dk_8 (dk_at dksX5_turn_1 21 rfl rfl)
theorem dX5_turn_45 : decode cX5_turn 45 = .ok (.iadd, 1) := dk_96 (dk_at dksX5_turn_1 22 rfl rfl)
theorem dX5_turn_46 : decode cX5_turn 46 = .ok (.putfield 278, 3) := dk_181 1 22 (dk_at dksX5_turn_2 0 rfl rfl)
theorem dX5_turn_49 : decode cX5_turn 49 = .ok (.aload_n 0, 1) := dk_42 (dk_at dksX5_turn_2 3 rfl rfl)
theorem dX5_turn_50 : decode cX5_turn 50 = .ok (.dup, 1) := dk_89 (dk_at dksX5_turn_2 4 rfl rfl)
theorem dX5_turn_51 : decode cX5_turn 51 = .ok (.getfield 170, 3) := dk_180 0 170 (dk_at dksX5_turn_2 5 rfl rfl)
theorem dX5_turn_54 : decode cX5_turn 54 = .ok (.iconst 1, 1) := dk_4 (dk_at dksX5_turn_2 8 rfl rfl)
theorem dX5_turn_55 : decode cX5_turn 55 = .ok (.iadd, 1) := dk_96 (dk_at dksX5_turn_2 9 rfl rfl)
theorem dX5_turn_56 : decode cX5_turn 56 = .ok (.putfield 170, 3) := dk_181 0 170 (dk_at dksX5_turn_2 10 rfl rfl)
theorem dX5_turn_59 : decode cX5_turn 59 = .ok (.aload_n 0, 1) := dk_42 (dk_at dksX5_turn_2 13 rfl rfl)
theorem dX5_turn_60 : decode cX5_turn 60 = .ok (.getfield 174, 3) := dk_180 0 174 (dk_at dksX5_turn_2 14 rfl rfl)
theorem dX5_turn_63 : decode cX5_turn 63 = .ok (.ireturn, 1) := dk_172 (dk_at dksX5_turn_2 17 rfl rfl)
abbrev cX5_emergency : ByteArray := prog_14_method_78_code
def yX5_emergency : MethodName := ⟨RX5, "emergency", "()I"⟩
def dkwX5_emergency_4 : List UInt8 := [172]
abbrev dktX5_emergency_4 : List UInt8 := dkwX5_emergency_4 ++ []
def dkwX5_emergency_3 : List UInt8 := [180, 0, 174, 181, 1, 25, 42, 2, 181, 0, 174, 42, 8, 42, 180, 1, 25, 182, 0, 255, 42, 180, 1, 25]
abbrev dktX5_emergency_3 : List UInt8 := dkwX5_emergency_3 ++ dktX5_emergency_4
def dkwX5_emergency_2 : List UInt8 := [160, 0, 21, 42, 42, 180, 0, 170, 181, 0, 174, 42, 89, 180, 0, 170, 4, 96, 181, 0, 170, 42, 42]
abbrev dktX5_emergency_2 : List UInt8 := dkwX5_emergency_2 ++ dktX5_emergency_3
def dkwX5_emergency_1 : List UInt8 := [182, 0, 251, 154, 0, 5, 3, 172, 42, 180, 0, 177, 42, 180, 1, 25, 4, 84, 42, 180, 0, 174, 2]
abbrev dktX5_emergency_1 : List UInt8 := dkwX5_emergency_1 ++ dktX5_emergency_2
def dkwX5_emergency_0 : List UInt8 := [42, 42, 180, 0, 174, 2, 160, 0, 12, 42, 180, 0, 170, 16, 20, 162, 0, 7, 4, 167, 0, 4, 3]
abbrev dktX5_emergency_0 : List UInt8 := dkwX5_emergency_0 ++ dktX5_emergency_1
theorem dksX5_emergency_0 : cX5_emergency.data.toList.drop 0 = dktX5_emergency_0 := by decide +kernel
theorem dksX5_emergency_1 : cX5_emergency.data.toList.drop 23 = dktX5_emergency_1 := dk_seg dksX5_emergency_0 23 rfl rfl
theorem dksX5_emergency_2 : cX5_emergency.data.toList.drop 46 = dktX5_emergency_2 := dk_seg dksX5_emergency_1 23 rfl rfl
theorem dksX5_emergency_3 : cX5_emergency.data.toList.drop 69 = dktX5_emergency_3 := dk_seg dksX5_emergency_2 23 rfl rfl
theorem dksX5_emergency_4 : cX5_emergency.data.toList.drop 93 = dktX5_emergency_4 := dk_seg dksX5_emergency_3 24 rfl rfl
theorem dX5_emergency_0 : decode cX5_emergency 0 = .ok (.aload_n 0, 1) := dk_42 (dk_at dksX5_emergency_0 0 rfl rfl)
theorem dX5_emergency_1 : decode cX5_emergency 1 = .ok (.aload_n 0, 1) := dk_42 (dk_at dksX5_emergency_0 1 rfl rfl)
theorem dX5_emergency_2 : decode cX5_emergency 2 = .ok (.getfield 174, 3) := dk_180 0 174 (dk_at dksX5_emergency_0 2 rfl rfl)
theorem dX5_emergency_5 : decode cX5_emergency 5 = .ok (.iconst (-1), 1) := dk_2 (dk_at dksX5_emergency_0 5 rfl rfl)
theorem dX5_emergency_6 : decode cX5_emergency 6 = .ok (.if_icmp .ne 12, 3) := dk_160 0 12 (dk_at dksX5_emergency_0 6 rfl rfl)
theorem dX5_emergency_9 : decode cX5_emergency 9 = .ok (.aload_n 0, 1) := dk_42 (dk_at dksX5_emergency_0 9 rfl rfl)
theorem dX5_emergency_10 : decode cX5_emergency 10 = .ok (.getfield 170, 3) := dk_180 0 170 (dk_at dksX5_emergency_0 10 rfl rfl)
theorem dX5_emergency_13 : decode cX5_emergency 13 = .ok (.bipush 20, 2) := dk_16 20 (dk_at dksX5_emergency_0 13 rfl rfl)
theorem dX5_emergency_15 : decode cX5_emergency 15 = .ok (.if_icmp .ge 7, 3) := dk_162 0 7 (dk_at dksX5_emergency_0 15 rfl rfl)
theorem dX5_emergency_18 : decode cX5_emergency 18 = .ok (.iconst 1, 1) := dk_4 (dk_at dksX5_emergency_0 18 rfl rfl)
theorem dX5_emergency_19 : decode cX5_emergency 19 = .ok (.goto 4, 3) := dk_167 0 4 (dk_at dksX5_emergency_0 19 rfl rfl)
theorem dX5_emergency_22 : decode cX5_emergency 22 = .ok (.iconst 0, 1) := dk_3 (dk_at dksX5_emergency_0 22 rfl rfl)
theorem dX5_emergency_23 : decode cX5_emergency 23 = .ok (.invokevirtual 251, 3) := dk_182 0 251 (dk_at dksX5_emergency_1 0 rfl rfl)
theorem dX5_emergency_26 : decode cX5_emergency 26 = .ok (.ifCond .ne 5, 3) := dk_154 0 5 (dk_at dksX5_emergency_1 3 rfl rfl)
theorem dX5_emergency_29 : decode cX5_emergency 29 = .ok (.iconst 0, 1) := dk_3 (dk_at dksX5_emergency_1 6 rfl rfl)
theorem dX5_emergency_30 : decode cX5_emergency 30 = .ok (.ireturn, 1) := dk_172 (dk_at dksX5_emergency_1 7 rfl rfl)
theorem dX5_emergency_31 : decode cX5_emergency 31 = .ok (.aload_n 0, 1) := dk_42 (dk_at dksX5_emergency_1 8 rfl rfl)
theorem dX5_emergency_32 : decode cX5_emergency 32 = .ok (.getfield 177, 3) := dk_180 0 177 (dk_at dksX5_emergency_1 9 rfl rfl)
theorem dX5_emergency_35 : decode cX5_emergency 35 = .ok (.aload_n 0, 1) := dk_42 (dk_at dksX5_emergency_1 12 rfl rfl)
theorem dX5_emergency_36 : decode cX5_emergency 36 = .ok (.getfield 281, 3) := dk_180 1 25 (dk_at dksX5_emergency_1 13 rfl rfl)
theorem dX5_emergency_39 : decode cX5_emergency 39 = .ok (.iconst 1, 1) := dk_4 (dk_at dksX5_emergency_1 16 rfl rfl)
theorem dX5_emergency_40 : decode cX5_emergency 40 = .ok (.bastore, 1) := dk_84 (dk_at dksX5_emergency_1 17 rfl rfl)
theorem dX5_emergency_41 : decode cX5_emergency 41 = .ok (.aload_n 0, 1) := dk_42 (dk_at dksX5_emergency_1 18 rfl rfl)
theorem dX5_emergency_42 : decode cX5_emergency 42 = .ok (.getfield 174, 3) := dk_180 0 174 (dk_at dksX5_emergency_1 19 rfl rfl)
theorem dX5_emergency_45 : decode cX5_emergency 45 = .ok (.iconst (-1), 1) := dk_2 (dk_at dksX5_emergency_1 22 rfl rfl)
theorem dX5_emergency_46 : decode cX5_emergency 46 = .ok (.if_icmp .ne 21, 3) := dk_160 0 21 (dk_at dksX5_emergency_2 0 rfl rfl)
theorem dX5_emergency_49 : decode cX5_emergency 49 = .ok (.aload_n 0, 1) := dk_42 (dk_at dksX5_emergency_2 3 rfl rfl)
theorem dX5_emergency_50 : decode cX5_emergency 50 = .ok (.aload_n 0, 1) := dk_42 (dk_at dksX5_emergency_2 4 rfl rfl)
theorem dX5_emergency_51 : decode cX5_emergency 51 = .ok (.getfield 170, 3) := dk_180 0 170 (dk_at dksX5_emergency_2 5 rfl rfl)
theorem dX5_emergency_54 : decode cX5_emergency 54 = .ok (.putfield 174, 3) := dk_181 0 174 (dk_at dksX5_emergency_2 8 rfl rfl)
theorem dX5_emergency_57 : decode cX5_emergency 57 = .ok (.aload_n 0, 1) := dk_42 (dk_at dksX5_emergency_2 11 rfl rfl)
theorem dX5_emergency_58 : decode cX5_emergency 58 = .ok (.dup, 1) := dk_89 (dk_at dksX5_emergency_2 12 rfl rfl)
theorem dX5_emergency_59 : decode cX5_emergency 59 = .ok (.getfield 170, 3) := dk_180 0 170 (dk_at dksX5_emergency_2 13 rfl rfl)
theorem dX5_emergency_62 : decode cX5_emergency 62 = .ok (.iconst 1, 1) := dk_4 (dk_at dksX5_emergency_2 16 rfl rfl)
theorem dX5_emergency_63 : decode cX5_emergency 63 = .ok (.iadd, 1) := dk_96 (dk_at dksX5_emergency_2 17 rfl rfl)
theorem dX5_emergency_64 : decode cX5_emergency 64 = .ok (.putfield 170, 3) := dk_181 0 170 (dk_at dksX5_emergency_2 18 rfl rfl)
theorem dX5_emergency_67 : decode cX5_emergency 67 = .ok (.aload_n 0, 1) := dk_42 (dk_at dksX5_emergency_2 21 rfl rfl)
theorem dX5_emergency_68 : decode cX5_emergency 68 = .ok (.aload_n 0, 1) := dk_42 (dk_at dksX5_emergency_2 22 rfl rfl)
theorem dX5_emergency_69 : decode cX5_emergency 69 = .ok (.getfield 174, 3) := dk_180 0 174 (dk_at dksX5_emergency_3 0 rfl rfl)
theorem dX5_emergency_72 : decode cX5_emergency 72 = .ok (.putfield 281, 3) := dk_181 1 25 (dk_at dksX5_emergency_3 3 rfl rfl)
theorem dX5_emergency_75 : decode cX5_emergency 75 = .ok (.aload_n 0, 1) := dk_42 (dk_at dksX5_emergency_3 6 rfl rfl)
theorem dX5_emergency_76 : decode cX5_emergency 76 = .ok (.iconst (-1), 1) := dk_2 (dk_at dksX5_emergency_3 7 rfl rfl)
theorem dX5_emergency_77 : decode cX5_emergency 77 = .ok (.putfield 174, 3) := dk_181 0 174 (dk_at dksX5_emergency_3 8 rfl rfl)
theorem dX5_emergency_80 : decode cX5_emergency 80 = .ok (.aload_n 0, 1) := dk_42 (dk_at dksX5_emergency_3 11 rfl rfl)
theorem dX5_emergency_81 : decode cX5_emergency 81 = .ok (.iconst 5, 1) := dk_8 (dk_at dksX5_emergency_3 12 rfl rfl)
theorem dX5_emergency_82 : decode cX5_emergency 82 = .ok (.aload_n 0, 1) := dk_42 (dk_at dksX5_emergency_3 13 rfl rfl)
theorem dX5_emergency_83 : decode cX5_emergency 83 = .ok (.getfield 281, 3) := dk_180 1 25 (dk_at dksX5_emergency_3 14 rfl rfl)
theorem dX5_emergency_86 : decode cX5_emergency 86 = .ok (.invokevirtual 255, 3) := dk_182 0 255 (dk_at dksX5_emergency_3 17 rfl rfl)
theorem dX5_emergency_89 : decode cX5_emergency 89 = .ok (.aload_n 0, 1) := dk_42 (dk_at dksX5_emergency_3 20 rfl rfl)
theorem dX5_emergency_90 : decode cX5_emergency 90 = .ok (.getfield 281, 3) := dk_180 1 25 (dk_at dksX5_emergency_3 21 rfl rfl)
theorem dX5_emergency_93 : decode cX5_emergency 93 = .ok (.ireturn, 1) := dk_172 (dk_at dksX5_emergency_4 0 rfl rfl)
abbrev cX5_signing : ByteArray := prog_14_method_79_code
def yX5_signing : MethodName := ⟨RX5, "signing", "()I"⟩
def dkwX5_signing_0 : List UInt8 := [42, 3, 181, 0, 225, 42, 180, 1, 25, 172]
abbrev dktX5_signing_0 : List UInt8 := dkwX5_signing_0 ++ []
theorem dksX5_signing_0 : cX5_signing.data.toList.drop 0 = dktX5_signing_0 := by decide +kernel
theorem dX5_signing_0 : decode cX5_signing 0 = .ok (.aload_n 0, 1) := dk_42 (dk_at dksX5_signing_0 0 rfl rfl)
theorem dX5_signing_1 : decode cX5_signing 1 = .ok (.iconst 0, 1) := dk_3 (dk_at dksX5_signing_0 1 rfl rfl)
theorem dX5_signing_2 : decode cX5_signing 2 = .ok (.putfield 225, 3) := dk_181 0 225 (dk_at dksX5_signing_0 2 rfl rfl)
theorem dX5_signing_5 : decode cX5_signing 5 = .ok (.aload_n 0, 1) := dk_42 (dk_at dksX5_signing_0 5 rfl rfl)
theorem dX5_signing_6 : decode cX5_signing 6 = .ok (.getfield 281, 3) := dk_180 1 25 (dk_at dksX5_signing_0 6 rfl rfl)
theorem dX5_signing_9 : decode cX5_signing 9 = .ok (.ireturn, 1) := dk_172 (dk_at dksX5_signing_0 9 rfl rfl)
abbrev cX5_isPublished : ByteArray := prog_14_method_81_code
def yX5_isPublished : MethodName := ⟨RX5, "isPublished", "(I)Z"⟩
def dkwX5_isPublished_1 : List UInt8 := [153, 0, 7, 4, 167, 0, 4, 3, 172]
abbrev dktX5_isPublished_1 : List UInt8 := dkwX5_isPublished_1 ++ []
def dkwX5_isPublished_0 : List UInt8 := [42, 27, 3, 42, 180, 0, 170, 4, 100, 184, 0, 228, 182, 0, 251, 153, 0, 15, 42, 27, 182, 1, 121]
abbrev dktX5_isPublished_0 : List UInt8 := dkwX5_isPublished_0 ++ dktX5_isPublished_1
theorem dksX5_isPublished_0 : cX5_isPublished.data.toList.drop 0 = dktX5_isPublished_0 := by decide +kernel
theorem dksX5_isPublished_1 : cX5_isPublished.data.toList.drop 23 = dktX5_isPublished_1 := dk_seg dksX5_isPublished_0 23 rfl rfl
theorem dX5_isPublished_0 : decode cX5_isPublished 0 = .ok (.aload_n 0, 1) := dk_42 (dk_at dksX5_isPublished_0 0 rfl rfl)
theorem dX5_isPublished_1 : decode cX5_isPublished 1 = .ok (.iload_n 1, 1) := dk_27 (dk_at dksX5_isPublished_0 1 rfl rfl)
theorem dX5_isPublished_2 : decode cX5_isPublished 2 = .ok (.iconst 0, 1) := dk_3 (dk_at dksX5_isPublished_0 2 rfl rfl)
theorem dX5_isPublished_3 : decode cX5_isPublished 3 = .ok (.aload_n 0, 1) := dk_42 (dk_at dksX5_isPublished_0 3 rfl rfl)
theorem dX5_isPublished_4 : decode cX5_isPublished 4 = .ok (.getfield 170, 3) := dk_180 0 170 (dk_at dksX5_isPublished_0 4 rfl rfl)
theorem dX5_isPublished_7 : decode cX5_isPublished 7 = .ok (.iconst 1, 1) := dk_4 (dk_at dksX5_isPublished_0 7 rfl rfl)
theorem dX5_isPublished_8 : decode cX5_isPublished 8 = .ok (.isub, 1) := dk_100 (dk_at dksX5_isPublished_0 8 rfl rfl)
theorem dX5_isPublished_9 : decode cX5_isPublished 9 = .ok (.invokestatic 228, 3) := dk_184 0 228 (dk_at dksX5_isPublished_0 9 rfl rfl)
theorem dX5_isPublished_12 : decode cX5_isPublished 12 = .ok (.invokevirtual 251, 3) := dk_182 0 251 (dk_at dksX5_isPublished_0 12 rfl rfl)
theorem dX5_isPublished_15 : decode cX5_isPublished 15 = .ok (.ifCond .eq 15, 3) := dk_153 0 15 (dk_at dksX5_isPublished_0 15 rfl rfl)
theorem dX5_isPublished_18 : decode cX5_isPublished 18 = .ok (.aload_n 0, 1) := dk_42 (dk_at dksX5_isPublished_0 18 rfl rfl)
theorem dX5_isPublished_19 : decode cX5_isPublished 19 = .ok (.iload_n 1, 1) := dk_27 (dk_at dksX5_isPublished_0 19 rfl rfl)
theorem dX5_isPublished_20 : decode cX5_isPublished 20 = .ok (.invokevirtual 377, 3) := dk_182 1 121 (dk_at dksX5_isPublished_0 20 rfl rfl)
theorem dX5_isPublished_23 : decode cX5_isPublished 23 = .ok (.ifCond .eq 7, 3) := dk_153 0 7 (dk_at dksX5_isPublished_1 0 rfl rfl)
theorem dX5_isPublished_26 : decode cX5_isPublished 26 = .ok (.iconst 1, 1) := dk_4 (dk_at dksX5_isPublished_1 3 rfl rfl)
theorem dX5_isPublished_27 : decode cX5_isPublished 27 = .ok (.goto 4, 3) := dk_167 0 4 (dk_at dksX5_isPublished_1 4 rfl rfl)
theorem dX5_isPublished_30 : decode cX5_isPublished 30 = .ok (.iconst 0, 1) := dk_3 (dk_at dksX5_isPublished_1 7 rfl rfl)
theorem dX5_isPublished_31 : decode cX5_isPublished 31 = .ok (.ireturn, 1) := dk_172 (dk_at dksX5_isPublished_1 8 rfl rfl)
abbrev cX5_isOpenKey : ByteArray := prog_14_method_80_code
def yX5_isOpenKey : MethodName := ⟨RX5, "isOpenKey", "(I)Z"⟩
def dkwX5_isOpenKey_1 : List UInt8 := [159, 0, 16, 42, 180, 0, 247, 42, 180, 0, 180, 27, 46, 162, 0, 7, 4, 167, 0, 4, 3, 172]
abbrev dktX5_isOpenKey_1 : List UInt8 := dkwX5_isOpenKey_1 ++ []
def dkwX5_isOpenKey_0 : List UInt8 := [27, 42, 180, 0, 170, 162, 0, 39, 42, 180, 0, 177, 27, 51, 154, 0, 30, 42, 180, 0, 180, 27, 46, 2]
abbrev dktX5_isOpenKey_0 : List UInt8 := dkwX5_isOpenKey_0 ++ dktX5_isOpenKey_1
theorem dksX5_isOpenKey_0 : cX5_isOpenKey.data.toList.drop 0 = dktX5_isOpenKey_0 := by decide +kernel
theorem dksX5_isOpenKey_1 : cX5_isOpenKey.data.toList.drop 24 = dktX5_isOpenKey_1 := dk_seg dksX5_isOpenKey_0 24 rfl rfl
theorem dX5_isOpenKey_0 : decode cX5_isOpenKey 0 = .ok (.iload_n 1, 1) := dk_27 (dk_at dksX5_isOpenKey_0 0 rfl rfl)
theorem dX5_isOpenKey_1 : decode cX5_isOpenKey 1 = .ok (.aload_n 0, 1) := dk_42 (dk_at dksX5_isOpenKey_0 1 rfl rfl)
theorem dX5_isOpenKey_2 : decode cX5_isOpenKey 2 = .ok (.getfield 170, 3) := dk_180 0 170 (dk_at dksX5_isOpenKey_0 2 rfl rfl)
theorem dX5_isOpenKey_5 : decode cX5_isOpenKey 5 = .ok (.if_icmp .ge 39, 3) := dk_162 0 39 (dk_at dksX5_isOpenKey_0 5 rfl rfl)
theorem dX5_isOpenKey_8 : decode cX5_isOpenKey 8 = .ok (.aload_n 0, 1) := dk_42 (dk_at dksX5_isOpenKey_0 8 rfl rfl)
theorem dX5_isOpenKey_9 : decode cX5_isOpenKey 9 = .ok (.getfield 177, 3) := dk_180 0 177 (dk_at dksX5_isOpenKey_0 9 rfl rfl)
theorem dX5_isOpenKey_12 : decode cX5_isOpenKey 12 = .ok (.iload_n 1, 1) := dk_27 (dk_at dksX5_isOpenKey_0 12 rfl rfl)
theorem dX5_isOpenKey_13 : decode cX5_isOpenKey 13 = .ok (.baload, 1) := dk_51 (dk_at dksX5_isOpenKey_0 13 rfl rfl)
theorem dX5_isOpenKey_14 : decode cX5_isOpenKey 14 = .ok (.ifCond .ne 30, 3) := dk_154 0 30 (dk_at dksX5_isOpenKey_0 14 rfl rfl)
theorem dX5_isOpenKey_17 : decode cX5_isOpenKey 17 = .ok (.aload_n 0, 1) := dk_42 (dk_at dksX5_isOpenKey_0 17 rfl rfl)
theorem dX5_isOpenKey_18 : decode cX5_isOpenKey 18 = .ok (.getfield 180, 3) := dk_180 0 180 (dk_at dksX5_isOpenKey_0 18 rfl rfl)
theorem dX5_isOpenKey_21 : decode cX5_isOpenKey 21 = .ok (.iload_n 1, 1) := dk_27 (dk_at dksX5_isOpenKey_0 21 rfl rfl)
theorem dX5_isOpenKey_22 : decode cX5_isOpenKey 22 = .ok (.iaload, 1) := dk_46 (dk_at dksX5_isOpenKey_0 22 rfl rfl)
theorem dX5_isOpenKey_23 : decode cX5_isOpenKey 23 = .ok (.iconst (-1), 1) := dk_2 (dk_at dksX5_isOpenKey_0 23 rfl rfl)
theorem dX5_isOpenKey_24 : decode cX5_isOpenKey 24 = .ok (.if_icmp .eq 16, 3) := dk_159 0 16 (dk_at dksX5_isOpenKey_1 0 rfl rfl)
theorem dX5_isOpenKey_27 : decode cX5_isOpenKey 27 = .ok (.aload_n 0, 1) := dk_42 (dk_at dksX5_isOpenKey_1 3 rfl rfl)
theorem dX5_isOpenKey_28 : decode cX5_isOpenKey 28 = .ok (.getfield 247, 3) := dk_180 0 247 (dk_at dksX5_isOpenKey_1 4 rfl rfl)
theorem dX5_isOpenKey_31 : decode cX5_isOpenKey 31 = .ok (.aload_n 0, 1) := dk_42 (dk_at dksX5_isOpenKey_1 7 rfl rfl)
theorem dX5_isOpenKey_32 : decode cX5_isOpenKey 32 = .ok (.getfield 180, 3) := dk_180 0 180 (dk_at dksX5_isOpenKey_1 8 rfl rfl)
theorem dX5_isOpenKey_35 : decode cX5_isOpenKey 35 = .ok (.iload_n 1, 1) := dk_27 (dk_at dksX5_isOpenKey_1 11 rfl rfl)
theorem dX5_isOpenKey_36 : decode cX5_isOpenKey 36 = .ok (.iaload, 1) := dk_46 (dk_at dksX5_isOpenKey_1 12 rfl rfl)
theorem dX5_isOpenKey_37 : decode cX5_isOpenKey 37 = .ok (.if_icmp .ge 7, 3) := dk_162 0 7 (dk_at dksX5_isOpenKey_1 13 rfl rfl)
theorem dX5_isOpenKey_40 : decode cX5_isOpenKey 40 = .ok (.iconst 1, 1) := dk_4 (dk_at dksX5_isOpenKey_1 16 rfl rfl)
theorem dX5_isOpenKey_41 : decode cX5_isOpenKey 41 = .ok (.goto 4, 3) := dk_167 0 4 (dk_at dksX5_isOpenKey_1 17 rfl rfl)
theorem dX5_isOpenKey_44 : decode cX5_isOpenKey 44 = .ok (.iconst 0, 1) := dk_3 (dk_at dksX5_isOpenKey_1 20 rfl rfl)
theorem dX5_isOpenKey_45 : decode cX5_isOpenKey 45 = .ok (.ireturn, 1) := dk_172 (dk_at dksX5_isOpenKey_1 21 rfl rfl)
abbrev cX5_line : ByteArray := prog_14_method_82_code
def yX5_line : MethodName := ⟨RX5, "line", "(I)I"⟩
def dkwX5_line_6 : List UInt8 := [132, 3, 1, 167, 255, 149, 28, 172]
abbrev dktX5_line_6 : List UInt8 := dkwX5_line_6 ++ []
def dkwX5_line_5 : List UInt8 := [21, 4, 153, 0, 7, 4, 167, 0, 4, 3, 84, 28, 21, 4, 153, 0, 7, 4, 167, 0, 4, 3, 96, 61]
abbrev dktX5_line_5 : List UInt8 := dkwX5_line_5 ++ dktX5_line_6
def dkwX5_line_4 : List UInt8 := [180, 0, 192, 16, 60, 27, 104, 29, 96, 42, 180, 0, 192, 16, 60, 27, 104, 29, 96, 51, 154, 0, 8]
abbrev dktX5_line_4 : List UInt8 := dkwX5_line_4 ++ dktX5_line_5
def dkwX5_line_3 : List UInt8 := [104, 29, 96, 51, 154, 0, 16, 42, 27, 29, 182, 1, 3, 153, 0, 7, 4, 167, 0, 4, 3, 54, 4, 42]
abbrev dktX5_line_3 : List UInt8 := dkwX5_line_3 ++ dktX5_line_4
def dkwX5_line_2 : List UInt8 := [180, 0, 183, 27, 51, 154, 0, 96, 42, 180, 0, 146, 29, 51, 154, 0, 30, 42, 180, 0, 192, 16, 60, 27]
abbrev dktX5_line_2 : List UInt8 := dkwX5_line_2 ++ dktX5_line_3
def dkwX5_line_1 : List UInt8 := [154, 0, 7, 4, 167, 0, 4, 3, 84, 3, 61, 3, 62, 29, 42, 180, 0, 238, 162, 0, 105, 42]
abbrev dktX5_line_1 : List UInt8 := dkwX5_line_1 ++ dktX5_line_2
def dkwX5_line_0 : List UInt8 := [42, 27, 184, 1, 102, 182, 0, 251, 154, 0, 5, 3, 172, 42, 180, 0, 183, 27, 42, 180, 0, 183, 27, 51]
abbrev dktX5_line_0 : List UInt8 := dkwX5_line_0 ++ dktX5_line_1
theorem dksX5_line_0 : cX5_line.data.toList.drop 0 = dktX5_line_0 := by decide +kernel
theorem dksX5_line_1 : cX5_line.data.toList.drop 24 = dktX5_line_1 := dk_seg dksX5_line_0 24 rfl rfl
theorem dksX5_line_2 : cX5_line.data.toList.drop 46 = dktX5_line_2 := dk_seg dksX5_line_1 22 rfl rfl
theorem dksX5_line_3 : cX5_line.data.toList.drop 70 = dktX5_line_3 := dk_seg dksX5_line_2 24 rfl rfl
theorem dksX5_line_4 : cX5_line.data.toList.drop 94 = dktX5_line_4 := dk_seg dksX5_line_3 24 rfl rfl
theorem dksX5_line_5 : cX5_line.data.toList.drop 117 = dktX5_line_5 := dk_seg dksX5_line_4 23 rfl rfl
theorem dksX5_line_6 : cX5_line.data.toList.drop 141 = dktX5_line_6 := dk_seg dksX5_line_5 24 rfl rfl
theorem dX5_line_0 : decode cX5_line 0 = .ok (.aload_n 0, 1) := dk_42 (dk_at dksX5_line_0 0 rfl rfl)
theorem dX5_line_1 : decode cX5_line 1 = .ok (.iload_n 1, 1) := dk_27 (dk_at dksX5_line_0 1 rfl rfl)
theorem dX5_line_2 : decode cX5_line 2 = .ok (.invokestatic 358, 3) := dk_184 1 102 (dk_at dksX5_line_0 2 rfl rfl)
theorem dX5_line_5 : decode cX5_line 5 = .ok (.invokevirtual 251, 3) := dk_182 0 251 (dk_at dksX5_line_0 5 rfl rfl)
theorem dX5_line_8 : decode cX5_line 8 = .ok (.ifCond .ne 5, 3) := dk_154 0 5 (dk_at dksX5_line_0 8 rfl rfl)
theorem dX5_line_11 : decode cX5_line 11 = .ok (.iconst 0, 1) := dk_3 (dk_at dksX5_line_0 11 rfl rfl)
theorem dX5_line_12 : decode cX5_line 12 = .ok (.ireturn, 1) := dk_172 (dk_at dksX5_line_0 12 rfl rfl)
theorem dX5_line_13 : decode cX5_line 13 = .ok (.aload_n 0, 1) := dk_42 (dk_at dksX5_line_0 13 rfl rfl)
theorem dX5_line_14 : decode cX5_line 14 = .ok (.getfield 183, 3) := dk_180 0 183 (dk_at dksX5_line_0 14 rfl rfl)
theorem dX5_line_17 : decode cX5_line 17 = .ok (.iload_n 1, 1) := dk_27 (dk_at dksX5_line_0 17 rfl rfl)
theorem dX5_line_18 : decode cX5_line 18 = .ok (.aload_n 0, 1) := dk_42 (dk_at dksX5_line_0 18 rfl rfl)
theorem dX5_line_19 : decode cX5_line 19 = .ok (.getfield 183, 3) := dk_180 0 183 (dk_at dksX5_line_0 19 rfl rfl)
theorem dX5_line_22 : decode cX5_line 22 = .ok (.iload_n 1, 1) := dk_27 (dk_at dksX5_line_0 22 rfl rfl)
theorem dX5_line_23 : decode cX5_line 23 = .ok (.baload, 1) := dk_51 (dk_at dksX5_line_0 23 rfl rfl)
theorem dX5_line_24 : decode cX5_line 24 = .ok (.ifCond .ne 7, 3) := dk_154 0 7 (dk_at dksX5_line_1 0 rfl rfl)
theorem dX5_line_27 : decode cX5_line 27 = .ok (.iconst 1, 1) := dk_4 (dk_at dksX5_line_1 3 rfl rfl)
theorem dX5_line_28 : decode cX5_line 28 = .ok (.goto 4, 3) := dk_167 0 4 (dk_at dksX5_line_1 4 rfl rfl)
theorem dX5_line_31 : decode cX5_line 31 = .ok (.iconst 0, 1) := dk_3 (dk_at dksX5_line_1 7 rfl rfl)
theorem dX5_line_32 : decode cX5_line 32 = .ok (.bastore, 1) := dk_84 (dk_at dksX5_line_1 8 rfl rfl)
theorem dX5_line_33 : decode cX5_line 33 = .ok (.iconst 0, 1) := dk_3 (dk_at dksX5_line_1 9 rfl rfl)
theorem dX5_line_34 : decode cX5_line 34 = .ok (.istore_n 2, 1) := dk_61 (dk_at dksX5_line_1 10 rfl rfl)
theorem dX5_line_35 : decode cX5_line 35 = .ok (.iconst 0, 1) := dk_3 (dk_at dksX5_line_1 11 rfl rfl)
theorem dX5_line_36 : decode cX5_line 36 = .ok (.istore_n 3, 1) := dk_62 (dk_at dksX5_line_1 12 rfl rfl)
theorem dX5_line_37 : decode cX5_line 37 = .ok (.iload_n 3, 1) := dk_29 (dk_at dksX5_line_1 13 rfl rfl)
theorem dX5_line_38 : decode cX5_line 38 = .ok (.aload_n 0, 1) := dk_42 (dk_at dksX5_line_1 14 rfl rfl)
theorem dX5_line_39 : decode cX5_line 39 = .ok (.getfield 238, 3) := dk_180 0 238 (dk_at dksX5_line_1 15 rfl rfl)
theorem dX5_line_42 : decode cX5_line 42 = .ok (.if_icmp .ge 105, 3) := dk_162 0 105 (dk_at dksX5_line_1 18 rfl rfl)
theorem dX5_line_45 : decode cX5_line 45 = .ok (.aload_n 0, 1) := dk_42 (dk_at dksX5_line_1 21 rfl rfl)
theorem dX5_line_46 : decode cX5_line 46 = .ok (.getfield 183, 3) := dk_180 0 183 (dk_at dksX5_line_2 0 rfl rfl)
theorem dX5_line_49 : decode cX5_line 49 = .ok (.iload_n 1, 1) := dk_27 (dk_at dksX5_line_2 3 rfl rfl)
theorem dX5_line_50 : decode cX5_line 50 = .ok (.baload, 1) := dk_51 (dk_at dksX5_line_2 4 rfl rfl)
theorem dX5_line_51 : decode cX5_line 51 = .ok (.ifCond .ne 96, 3) := dk_154 0 96 (dk_at dksX5_line_2 5 rfl rfl)
theorem dX5_line_54 : decode cX5_line 54 = .ok (.aload_n 0, 1) := dk_42 (dk_at dksX5_line_2 8 rfl rfl)
theorem dX5_line_55 : decode cX5_line 55 = .ok (.getfield 146, 3) := dk_180 0 146 (dk_at dksX5_line_2 9 rfl rfl)
theorem dX5_line_58 : decode cX5_line 58 = .ok (.iload_n 3, 1) := dk_29 (dk_at dksX5_line_2 12 rfl rfl)
theorem dX5_line_59 : decode cX5_line 59 = .ok (.baload, 1) := dk_51 (dk_at dksX5_line_2 13 rfl rfl)
theorem dX5_line_60 : decode cX5_line 60 = .ok (.ifCond .ne 30, 3) := dk_154 0 30 (dk_at dksX5_line_2 14 rfl rfl)
theorem dX5_line_63 : decode cX5_line 63 = .ok (.aload_n 0, 1) := dk_42 (dk_at dksX5_line_2 17 rfl rfl)
theorem dX5_line_64 : decode cX5_line 64 = .ok (.getfield 192, 3) := dk_180 0 192 (dk_at dksX5_line_2 18 rfl rfl)
theorem dX5_line_67 : decode cX5_line 67 = .ok (.bipush 60, 2) := dk_16 60 (dk_at dksX5_line_2 21 rfl rfl)
theorem dX5_line_69 : decode cX5_line 69 = .ok (.iload_n 1, 1) := dk_27 (dk_at dksX5_line_2 23 rfl rfl)
theorem dX5_line_70 : decode cX5_line 70 = .ok (.imul, 1) := dk_104 (dk_at dksX5_line_3 0 rfl rfl)
theorem dX5_line_71 : decode cX5_line 71 = .ok (.iload_n 3, 1) := dk_29 (dk_at dksX5_line_3 1 rfl rfl)
theorem dX5_line_72 : decode cX5_line 72 = .ok (.iadd, 1) := dk_96 (dk_at dksX5_line_3 2 rfl rfl)
theorem dX5_line_73 : decode cX5_line 73 = .ok (.baload, 1) := dk_51 (dk_at dksX5_line_3 3 rfl rfl)
theorem dX5_line_74 : decode cX5_line 74 = .ok (.ifCond .ne 16, 3) := dk_154 0 16 (dk_at dksX5_line_3 4 rfl rfl)
theorem dX5_line_77 : decode cX5_line 77 = .ok (.aload_n 0, 1) := dk_42 (dk_at dksX5_line_3 7 rfl rfl)
theorem dX5_line_78 : decode cX5_line 78 = .ok (.iload_n 1, 1) := dk_27 (dk_at dksX5_line_3 8 rfl rfl)
theorem dX5_line_79 : decode cX5_line 79 = .ok (.iload_n 3, 1) := dk_29 (dk_at dksX5_line_3 9 rfl rfl)
theorem dX5_line_80 : decode cX5_line 80 = .ok (.invokevirtual 259, 3) := dk_182 1 3 (dk_at dksX5_line_3 10 rfl rfl)
theorem dX5_line_83 : decode cX5_line 83 = .ok (.ifCond .eq 7, 3) := dk_153 0 7 (dk_at dksX5_line_3 13 rfl rfl)
theorem dX5_line_86 : decode cX5_line 86 = .ok (.iconst 1, 1) := dk_4 (dk_at dksX5_line_3 16 rfl rfl)
theorem dX5_line_87 : decode cX5_line 87 = .ok (.goto 4, 3) := dk_167 0 4 (dk_at dksX5_line_3 17 rfl rfl)
theorem dX5_line_90 : decode cX5_line 90 = .ok (.iconst 0, 1) := dk_3 (dk_at dksX5_line_3 20 rfl rfl)
theorem dX5_line_91 : decode cX5_line 91 = .ok (.istore 4, 2) := dk_54 4 (dk_at dksX5_line_3 21 rfl rfl)
theorem dX5_line_93 : decode cX5_line 93 = .ok (.aload_n 0, 1) := dk_42 (dk_at dksX5_line_3 23 rfl rfl)
theorem dX5_line_94 : decode cX5_line 94 = .ok (.getfield 192, 3) := dk_180 0 192 (dk_at dksX5_line_4 0 rfl rfl)
theorem dX5_line_97 : decode cX5_line 97 = .ok (.bipush 60, 2) := dk_16 60 (dk_at dksX5_line_4 3 rfl rfl)
theorem dX5_line_99 : decode cX5_line 99 = .ok (.iload_n 1, 1) := dk_27 (dk_at dksX5_line_4 5 rfl rfl)
theorem dX5_line_100 : decode cX5_line 100 = .ok (.imul, 1) := dk_104 (dk_at dksX5_line_4 6 rfl rfl)
theorem dX5_line_101 : decode cX5_line 101 = .ok (.iload_n 3, 1) := dk_29 (dk_at dksX5_line_4 7 rfl rfl)
theorem dX5_line_102 : decode cX5_line 102 = .ok (.iadd, 1) := dk_96 (dk_at dksX5_line_4 8 rfl rfl)
theorem dX5_line_103 : decode cX5_line 103 = .ok (.aload_n 0, 1) := dk_42 (dk_at dksX5_line_4 9 rfl rfl)
theorem dX5_line_104 : decode cX5_line 104 = .ok (.getfield 192, 3) := dk_180 0 192 (dk_at dksX5_line_4 10 rfl rfl)
theorem dX5_line_107 : decode cX5_line 107 = .ok (.bipush 60, 2) := dk_16 60 (dk_at dksX5_line_4 13 rfl rfl)
theorem dX5_line_109 : decode cX5_line 109 = .ok (.iload_n 1, 1) := dk_27 (dk_at dksX5_line_4 15 rfl rfl)
theorem dX5_line_110 : decode cX5_line 110 = .ok (.imul, 1) := dk_104 (dk_at dksX5_line_4 16 rfl rfl)
theorem dX5_line_111 : decode cX5_line 111 = .ok (.iload_n 3, 1) := dk_29 (dk_at dksX5_line_4 17 rfl rfl)
theorem dX5_line_112 : decode cX5_line 112 = .ok (.iadd, 1) := dk_96 (dk_at dksX5_line_4 18 rfl rfl)
theorem dX5_line_113 : decode cX5_line 113 = .ok (.baload, 1) := dk_51 (dk_at dksX5_line_4 19 rfl rfl)
theorem dX5_line_114 : decode cX5_line 114 = .ok (.ifCond .ne 8, 3) := dk_154 0 8 (dk_at dksX5_line_4 20 rfl rfl)
theorem dX5_line_117 : decode cX5_line 117 = .ok (.iload 4, 2) := dk_21 4 (dk_at dksX5_line_5 0 rfl rfl)
theorem dX5_line_119 : decode cX5_line 119 = .ok (.ifCond .eq 7, 3) := dk_153 0 7 (dk_at dksX5_line_5 2 rfl rfl)
theorem dX5_line_122 : decode cX5_line 122 = .ok (.iconst 1, 1) := dk_4 (dk_at dksX5_line_5 5 rfl rfl)
theorem dX5_line_123 : decode cX5_line 123 = .ok (.goto 4, 3) := dk_167 0 4 (dk_at dksX5_line_5 6 rfl rfl)
theorem dX5_line_126 : decode cX5_line 126 = .ok (.iconst 0, 1) := dk_3 (dk_at dksX5_line_5 9 rfl rfl)
theorem dX5_line_127 : decode cX5_line 127 = .ok (.bastore, 1) := dk_84 (dk_at dksX5_line_5 10 rfl rfl)
theorem dX5_line_128 : decode cX5_line 128 = .ok (.iload_n 2, 1) := dk_28 (dk_at dksX5_line_5 11 rfl rfl)
theorem dX5_line_129 : decode cX5_line 129 = .ok (.iload 4, 2) := dk_21 4 (dk_at dksX5_line_5 12 rfl rfl)
theorem dX5_line_131 : decode cX5_line 131 = .ok (.ifCond .eq 7, 3) := dk_153 0 7 (dk_at dksX5_line_5 14 rfl rfl)
theorem dX5_line_134 : decode cX5_line 134 = .ok (.iconst 1, 1) := dk_4 (dk_at dksX5_line_5 17 rfl rfl)
theorem dX5_line_135 : decode cX5_line 135 = .ok (.goto 4, 3) := dk_167 0 4 (dk_at dksX5_line_5 18 rfl rfl)
theorem dX5_line_138 : decode cX5_line 138 = .ok (.iconst 0, 1) := dk_3 (dk_at dksX5_line_5 21 rfl rfl)
theorem dX5_line_139 : decode cX5_line 139 = .ok (.iadd, 1) := dk_96 (dk_at dksX5_line_5 22 rfl rfl)
theorem dX5_line_140 : decode cX5_line 140 = .ok (.istore_n 2, 1) := dk_61 (dk_at dksX5_line_5 23 rfl rfl)
theorem dX5_line_141 : decode cX5_line 141 = .ok (.iinc 3 1, 3) := dk_132 3 1 (dk_at dksX5_line_6 0 rfl rfl)
theorem dX5_line_144 : decode cX5_line 144 = .ok (.goto (-107), 3) := dk_167 255 149 (dk_at dksX5_line_6 3 rfl rfl)
theorem dX5_line_147 : decode cX5_line 147 = .ok (.iload_n 2, 1) := dk_28 (dk_at dksX5_line_6 6 rfl rfl)
theorem dX5_line_148 : decode cX5_line 148 = .ok (.ireturn, 1) := dk_172 (dk_at dksX5_line_6 7 rfl rfl)
abbrev cX5_check : ByteArray := prog_14_method_83_code
def yX5_check : MethodName := ⟨RX5, "check", "(III)I"⟩
def dkwX5_check_9 : List UInt8 := [180, 0, 155, 28, 46, 29, 122, 4, 126, 154, 0, 7, 8, 167, 0, 4, 3, 172]
abbrev dktX5_check_9 : List UInt8 := dkwX5_check_9 ++ []
def dkwX5_check_8 : List UInt8 := [172, 42, 180, 0, 192, 16, 60, 27, 104, 42, 180, 0, 161, 28, 46, 96, 51, 153, 0, 5, 7, 172, 42]
abbrev dktX5_check_8 : List UInt8 := dkwX5_check_8 ++ dktX5_check_9
def dkwX5_check_7 : List UInt8 := [42, 180, 0, 247, 79, 42, 180, 0, 186, 27, 46, 42, 180, 0, 164, 28, 46, 122, 4, 126, 154, 0, 5, 6]
abbrev dktX5_check_7 : List UInt8 := dkwX5_check_7 ++ dktX5_check_8
def dkwX5_check_6 : List UInt8 := [153, 0, 10, 4, 21, 5, 120, 167, 0, 4, 3, 128, 79, 132, 5, 1, 167, 255, 220, 42, 180, 0, 189, 27]
abbrev dktX5_check_6 : List UInt8 := dkwX5_check_6 ++ dktX5_check_7
def dkwX5_check_5 : List UInt8 := [3, 54, 5, 21, 5, 16, 20, 162, 0, 35, 42, 180, 0, 186, 27, 92, 46, 42, 21, 5, 182, 1, 121]
abbrev dktX5_check_5 : List UInt8 := dkwX5_check_5 ++ dktX5_check_6
def dkwX5_check_4 : List UInt8 := [180, 0, 186, 27, 46, 42, 180, 0, 164, 28, 46, 122, 4, 126, 154, 0, 62, 42, 180, 0, 186, 27, 3, 79]
abbrev dktX5_check_4 : List UInt8 := dkwX5_check_4 ++ dktX5_check_5
def dkwX5_check_3 : List UInt8 := [27, 51, 154, 0, 96, 42, 180, 0, 247, 42, 180, 0, 189, 27, 46, 100, 16, 15, 163, 0, 21, 42]
abbrev dktX5_check_3 : List UInt8 := dkwX5_check_3 ++ dktX5_check_4
def dkwX5_check_2 : List UInt8 := [159, 0, 5, 4, 172, 42, 180, 0, 247, 42, 180, 0, 167, 28, 46, 164, 0, 5, 5, 172, 42, 180, 0, 183]
abbrev dktX5_check_2 : List UInt8 := dkwX5_check_2 ++ dktX5_check_3
def dkwX5_check_1 : List UInt8 := [21, 4, 29, 3, 6, 184, 0, 228, 182, 1, 18, 154, 0, 5, 3, 172, 42, 180, 0, 152, 28, 46, 27]
abbrev dktX5_check_1 : List UInt8 := dkwX5_check_1 ++ dktX5_check_2
def dkwX5_check_0 : List UInt8 := [27, 184, 1, 102, 153, 0, 15, 42, 28, 182, 1, 118, 153, 0, 7, 4, 167, 0, 4, 3, 54, 4, 42]
abbrev dktX5_check_0 : List UInt8 := dkwX5_check_0 ++ dktX5_check_1
theorem dksX5_check_0 : cX5_check.data.toList.drop 0 = dktX5_check_0 := by decide +kernel
theorem dksX5_check_1 : cX5_check.data.toList.drop 23 = dktX5_check_1 := dk_seg dksX5_check_0 23 rfl rfl
theorem dksX5_check_2 : cX5_check.data.toList.drop 46 = dktX5_check_2 := dk_seg dksX5_check_1 23 rfl rfl
theorem dksX5_check_3 : cX5_check.data.toList.drop 70 = dktX5_check_3 := dk_seg dksX5_check_2 24 rfl rfl
theorem dksX5_check_4 : cX5_check.data.toList.drop 92 = dktX5_check_4 := dk_seg dksX5_check_3 22 rfl rfl
theorem dksX5_check_5 : cX5_check.data.toList.drop 116 = dktX5_check_5 := dk_seg dksX5_check_4 24 rfl rfl
theorem dksX5_check_6 : cX5_check.data.toList.drop 139 = dktX5_check_6 := dk_seg dksX5_check_5 23 rfl rfl
theorem dksX5_check_7 : cX5_check.data.toList.drop 163 = dktX5_check_7 := dk_seg dksX5_check_6 24 rfl rfl
theorem dksX5_check_8 : cX5_check.data.toList.drop 187 = dktX5_check_8 := dk_seg dksX5_check_7 24 rfl rfl
theorem dksX5_check_9 : cX5_check.data.toList.drop 210 = dktX5_check_9 := dk_seg dksX5_check_8 23 rfl rfl
theorem dX5_check_0 : decode cX5_check 0 = .ok (.iload_n 1, 1) := dk_27 (dk_at dksX5_check_0 0 rfl rfl)
theorem dX5_check_1 : decode cX5_check 1 = .ok (.invokestatic 358, 3) := dk_184 1 102 (dk_at dksX5_check_0 1 rfl rfl)
theorem dX5_check_4 : decode cX5_check 4 = .ok (.ifCond .eq 15, 3) := dk_153 0 15 (dk_at dksX5_check_0 4 rfl rfl)
theorem dX5_check_7 : decode cX5_check 7 = .ok (.aload_n 0, 1) := dk_42 (dk_at dksX5_check_0 7 rfl rfl)
theorem dX5_check_8 : decode cX5_check 8 = .ok (.iload_n 2, 1) := dk_28 (dk_at dksX5_check_0 8 rfl rfl)
theorem dX5_check_9 : decode cX5_check 9 = .ok (.invokevirtual 374, 3) := dk_182 1 118 (dk_at dksX5_check_0 9 rfl rfl)
theorem dX5_check_12 : decode cX5_check 12 = .ok (.ifCond .eq 7, 3) := dk_153 0 7 (dk_at dksX5_check_0 12 rfl rfl)
theorem dX5_check_15 : decode cX5_check 15 = .ok (.iconst 1, 1) := dk_4 (dk_at dksX5_check_0 15 rfl rfl)
theorem dX5_check_16 : decode cX5_check 16 = .ok (.goto 4, 3) := dk_167 0 4 (dk_at dksX5_check_0 16 rfl rfl)
theorem dX5_check_19 : decode cX5_check 19 = .ok (.iconst 0, 1) := dk_3 (dk_at dksX5_check_0 19 rfl rfl)
theorem dX5_check_20 : decode cX5_check 20 = .ok (.istore 4, 2) := dk_54 4 (dk_at dksX5_check_0 20 rfl rfl)
theorem dX5_check_22 : decode cX5_check 22 = .ok (.aload_n 0, 1) := dk_42 (dk_at dksX5_check_0 22 rfl rfl)
theorem dX5_check_23 : decode cX5_check 23 = .ok (.iload 4, 2) := dk_21 4 (dk_at dksX5_check_1 0 rfl rfl)
theorem dX5_check_25 : decode cX5_check 25 = .ok (.iload_n 3, 1) := dk_29 (dk_at dksX5_check_1 2 rfl rfl)
theorem dX5_check_26 : decode cX5_check 26 = .ok (.iconst 0, 1) := dk_3 (dk_at dksX5_check_1 3 rfl rfl)
theorem dX5_check_27 : decode cX5_check 27 = .ok (.iconst 3, 1) := dk_6 (dk_at dksX5_check_1 4 rfl rfl)
theorem dX5_check_28 : decode cX5_check 28 = .ok (.invokestatic 228, 3) := dk_184 0 228 (dk_at dksX5_check_1 5 rfl rfl)
theorem dX5_check_31 : decode cX5_check 31 = .ok (.invokevirtual 274, 3) := dk_182 1 18 (dk_at dksX5_check_1 8 rfl rfl)
theorem dX5_check_34 : decode cX5_check 34 = .ok (.ifCond .ne 5, 3) := dk_154 0 5 (dk_at dksX5_check_1 11 rfl rfl)
theorem dX5_check_37 : decode cX5_check 37 = .ok (.iconst 0, 1) := dk_3 (dk_at dksX5_check_1 14 rfl rfl)
theorem dX5_check_38 : decode cX5_check 38 = .ok (.ireturn, 1) := dk_172 (dk_at dksX5_check_1 15 rfl rfl)
theorem dX5_check_39 : decode cX5_check 39 = .ok (.aload_n 0, 1) := dk_42 (dk_at dksX5_check_1 16 rfl rfl)
theorem dX5_check_40 : decode cX5_check 40 = .ok (.getfield 152, 3) := dk_180 0 152 (dk_at dksX5_check_1 17 rfl rfl)
theorem dX5_check_43 : decode cX5_check 43 = .ok (.iload_n 2, 1) := dk_28 (dk_at dksX5_check_1 20 rfl rfl)
theorem dX5_check_44 : decode cX5_check 44 = .ok (.iaload, 1) := dk_46 (dk_at dksX5_check_1 21 rfl rfl)
theorem dX5_check_45 : decode cX5_check 45 = .ok (.iload_n 1, 1) := dk_27 (dk_at dksX5_check_1 22 rfl rfl)
theorem dX5_check_46 : decode cX5_check 46 = .ok (.if_icmp .eq 5, 3) := dk_159 0 5 (dk_at dksX5_check_2 0 rfl rfl)
theorem dX5_check_49 : decode cX5_check 49 = .ok (.iconst 1, 1) := dk_4 (dk_at dksX5_check_2 3 rfl rfl)
theorem dX5_check_50 : decode cX5_check 50 = .ok (.ireturn, 1) := dk_172 (dk_at dksX5_check_2 4 rfl rfl)
theorem dX5_check_51 : decode cX5_check 51 = .ok (.aload_n 0, 1) := dk_42 (dk_at dksX5_check_2 5 rfl rfl)
theorem dX5_check_52 : decode cX5_check 52 = .ok (.getfield 247, 3) := dk_180 0 247 (dk_at dksX5_check_2 6 rfl rfl)
theorem dX5_check_55 : decode cX5_check 55 = .ok (.aload_n 0, 1) := dk_42 (dk_at dksX5_check_2 9 rfl rfl)
theorem dX5_check_56 : decode cX5_check 56 = .ok (.getfield 167, 3) := dk_180 0 167 (dk_at dksX5_check_2 10 rfl rfl)
theorem dX5_check_59 : decode cX5_check 59 = .ok (.iload_n 2, 1) := dk_28 (dk_at dksX5_check_2 13 rfl rfl)
theorem dX5_check_60 : decode cX5_check 60 = .ok (.iaload, 1) := dk_46 (dk_at dksX5_check_2 14 rfl rfl)
theorem dX5_check_61 : decode cX5_check 61 = .ok (.if_icmp .le 5, 3) := dk_164 0 5 (dk_at dksX5_check_2 15 rfl rfl)
theorem dX5_check_64 : decode cX5_check 64 = .ok (.iconst 2, 1) := dk_5 (dk_at dksX5_check_2 18 rfl rfl)
theorem dX5_check_65 : decode cX5_check 65 = .ok (.ireturn, 1) := dk_172 (dk_at dksX5_check_2 19 rfl rfl)
theorem dX5_check_66 : decode cX5_check 66 = .ok (.aload_n 0, 1) := dk_42 (dk_at dksX5_check_2 20 rfl rfl)
theorem dX5_check_67 : decode cX5_check 67 = .ok (.getfield 183, 3) := dk_180 0 183 (dk_at dksX5_check_2 21 rfl rfl)
theorem dX5_check_70 : decode cX5_check 70 = .ok (.iload_n 1, 1) := dk_27 (dk_at dksX5_check_3 0 rfl rfl)
theorem dX5_check_71 : decode cX5_check 71 = .ok (.baload, 1) := dk_51 (dk_at dksX5_check_3 1 rfl rfl)
theorem dX5_check_72 : decode cX5_check 72 = .ok (.ifCond .ne 96, 3) := dk_154 0 96 (dk_at dksX5_check_3 2 rfl rfl)
theorem dX5_check_75 : decode cX5_check 75 = .ok (.aload_n 0, 1) := dk_42 (dk_at dksX5_check_3 5 rfl rfl)
theorem dX5_check_76 : decode cX5_check 76 = .ok (.getfield 247, 3) := dk_180 0 247 (dk_at dksX5_check_3 6 rfl rfl)
theorem dX5_check_79 : decode cX5_check 79 = .ok (.aload_n 0, 1) := dk_42 (dk_at dksX5_check_3 9 rfl rfl)
theorem dX5_check_80 : decode cX5_check 80 = .ok (.getfield 189, 3) := dk_180 0 189 (dk_at dksX5_check_3 10 rfl rfl)
theorem dX5_check_83 : decode cX5_check 83 = .ok (.iload_n 1, 1) := dk_27 (dk_at dksX5_check_3 13 rfl rfl)
theorem dX5_check_84 : decode cX5_check 84 = .ok (.iaload, 1) := dk_46 (dk_at dksX5_check_3 14 rfl rfl)
theorem dX5_check_85 : decode cX5_check 85 = .ok (.isub, 1) := dk_100 (dk_at dksX5_check_3 15 rfl rfl)
theorem dX5_check_86 : decode cX5_check 86 = .ok (.bipush 15, 2) := dk_16 15 (dk_at dksX5_check_3 16 rfl rfl)
theorem dX5_check_88 : decode cX5_check 88 = .ok (.if_icmp .gt 21, 3) := dk_163 0 21 (dk_at dksX5_check_3 18 rfl rfl)
theorem dX5_check_91 : decode cX5_check 91 = .ok (.aload_n 0, 1) := dk_42 (dk_at dksX5_check_3 21 rfl rfl)
theorem dX5_check_92 : decode cX5_check 92 = .ok (.getfield 186, 3) := dk_180 0 186 (dk_at dksX5_check_4 0 rfl rfl)
theorem dX5_check_95 : decode cX5_check 95 = .ok (.iload_n 1, 1) := dk_27 (dk_at dksX5_check_4 3 rfl rfl)
theorem dX5_check_96 : decode cX5_check 96 = .ok (.iaload, 1) := dk_46 (dk_at dksX5_check_4 4 rfl rfl)
theorem dX5_check_97 : decode cX5_check 97 = .ok (.aload_n 0, 1) := dk_42 (dk_at dksX5_check_4 5 rfl rfl)
theorem dX5_check_98 : decode cX5_check 98 = .ok (.getfield 164, 3) := dk_180 0 164 (dk_at dksX5_check_4 6 rfl rfl)
theorem dX5_check_101 : decode cX5_check 101 = .ok (.iload_n 2, 1) := dk_28 (dk_at dksX5_check_4 9 rfl rfl)
theorem dX5_check_102 : decode cX5_check 102 = .ok (.iaload, 1) := dk_46 (dk_at dksX5_check_4 10 rfl rfl)
theorem dX5_check_103 : decode cX5_check 103 = .ok (.ishr, 1) := dk_122 (dk_at dksX5_check_4 11 rfl rfl)
theorem dX5_check_104 : decode cX5_check 104 = .ok (.iconst 1, 1) := dk_4 (dk_at dksX5_check_4 12 rfl rfl)
theorem dX5_check_105 : decode cX5_check 105 = .ok (.iand, 1) := dk_126 (dk_at dksX5_check_4 13 rfl rfl)
theorem dX5_check_106 : decode cX5_check 106 = .ok (.ifCond .ne 62, 3) := dk_154 0 62 (dk_at dksX5_check_4 14 rfl rfl)
theorem dX5_check_109 : decode cX5_check 109 = .ok (.aload_n 0, 1) := dk_42 (dk_at dksX5_check_4 17 rfl rfl)
theorem dX5_check_110 : decode cX5_check 110 = .ok (.getfield 186, 3) := dk_180 0 186 (dk_at dksX5_check_4 18 rfl rfl)
theorem dX5_check_113 : decode cX5_check 113 = .ok (.iload_n 1, 1) := dk_27 (dk_at dksX5_check_4 21 rfl rfl)
theorem dX5_check_114 : decode cX5_check 114 = .ok (.iconst 0, 1) := dk_3 (dk_at dksX5_check_4 22 rfl rfl)
theorem dX5_check_115 : decode cX5_check 115 = .ok (.iastore, 1) := dk_79 (dk_at dksX5_check_4 23 rfl rfl)
theorem dX5_check_116 : decode cX5_check 116 = .ok (.iconst 0, 1) := dk_3 (dk_at dksX5_check_5 0 rfl rfl)
theorem dX5_check_117 : decode cX5_check 117 = .ok (.istore 5, 2) := dk_54 5 (dk_at dksX5_check_5 1 rfl rfl)
theorem dX5_check_119 : decode cX5_check 119 = .ok (.iload 5, 2) := dk_21 5 (dk_at dksX5_check_5 3 rfl rfl)
theorem dX5_check_121 : decode cX5_check 121 = .ok (.bipush 20, 2) := dk_16 20 (dk_at dksX5_check_5 5 rfl rfl)
theorem dX5_check_123 : decode cX5_check 123 = .ok (.if_icmp .ge 35, 3) := dk_162 0 35 (dk_at dksX5_check_5 7 rfl rfl)
theorem dX5_check_126 : decode cX5_check 126 = .ok (.aload_n 0, 1) := dk_42 (dk_at dksX5_check_5 10 rfl rfl)
theorem dX5_check_127 : decode cX5_check 127 = .ok (.getfield 186, 3) := dk_180 0 186 (dk_at dksX5_check_5 11 rfl rfl)
theorem dX5_check_130 : decode cX5_check 130 = .ok (.iload_n 1, 1) := dk_27 (dk_at dksX5_check_5 14 rfl rfl)
theorem dX5_check_131 : decode cX5_check 131 = .ok (.dup2, 1) := dk_92 (dk_at dksX5_check_5 15 rfl rfl)
theorem dX5_check_132 : decode cX5_check 132 = .ok (.iaload, 1) := dk_46 (dk_at dksX5_check_5 16 rfl rfl)
theorem dX5_check_133 : decode cX5_check 133 = .ok (.aload_n 0, 1) := dk_42 (dk_at dksX5_check_5 17 rfl rfl)
theorem dX5_check_134 : decode cX5_check 134 = .ok (.iload 5, 2) := dk_21 5 (dk_at dksX5_check_5 18 rfl rfl)
theorem dX5_check_136 : decode cX5_check 136 = .ok (.invokevirtual 377, 3) := dk_182 1 121 (dk_at dksX5_check_5 20 rfl rfl)
theorem dX5_check_139 : decode cX5_check 139 = .ok (.ifCond .eq 10, 3) := dk_153 0 10 (dk_at dksX5_check_6 0 rfl rfl)
theorem dX5_check_142 : decode cX5_check 142 = .ok (.iconst 1, 1) := dk_4 (dk_at dksX5_check_6 3 rfl rfl)
theorem dX5_check_143 : decode cX5_check 143 = .ok (.iload 5, 2) := dk_21 5 (dk_at dksX5_check_6 4 rfl rfl)
theorem dX5_check_145 : decode cX5_check 145 = .ok (.ishl, 1) := dk_120 (dk_at dksX5_check_6 6 rfl rfl)
theorem dX5_check_146 : decode cX5_check 146 = .ok (.goto 4, 3) := dk_167 0 4 (dk_at dksX5_check_6 7 rfl rfl)
theorem dX5_check_149 : decode cX5_check 149 = .ok (.iconst 0, 1) := dk_3 (dk_at dksX5_check_6 10 rfl rfl)
theorem dX5_check_150 : decode cX5_check 150 = .ok (.ior, 1) := dk_128 (dk_at dksX5_check_6 11 rfl rfl)
theorem dX5_check_151 : decode cX5_check 151 = .ok (.iastore, 1) := dk_79 (dk_at dksX5_check_6 12 rfl rfl)
theorem dX5_check_152 : decode cX5_check 152 = .ok (.iinc 5 1, 3) := dk_132 5 1 (dk_at dksX5_check_6 13 rfl rfl)
theorem dX5_check_155 : decode cX5_check 155 = .ok (.goto (-36), 3) := dk_167 255 220 (dk_at dksX5_check_6 16 rfl rfl)
theorem dX5_check_158 : decode cX5_check 158 = .ok (.aload_n 0, 1) := dk_42 (dk_at dksX5_check_6 19 rfl rfl)
theorem dX5_check_159 : decode cX5_check 159 = .ok (.getfield 189, 3) := dk_180 0 189 (dk_at dksX5_check_6 20 rfl rfl)
theorem dX5_check_162 : decode cX5_check 162 = .ok (.iload_n 1, 1) := dk_27 (dk_at dksX5_check_6 23 rfl rfl)
theorem dX5_check_163 : decode cX5_check 163 = .ok (.aload_n 0, 1) := dk_42 (dk_at dksX5_check_7 0 rfl rfl)
theorem dX5_check_164 : decode cX5_check 164 = .ok (.getfield 247, 3) := dk_180 0 247 (dk_at dksX5_check_7 1 rfl rfl)
theorem dX5_check_167 : decode cX5_check 167 = .ok (.iastore, 1) := dk_79 (dk_at dksX5_check_7 4 rfl rfl)
theorem dX5_check_168 : decode cX5_check 168 = .ok (.aload_n 0, 1) := dk_42 (dk_at dksX5_check_7 5 rfl rfl)
theorem dX5_check_169 : decode cX5_check 169 = .ok (.getfield 186, 3) := dk_180 0 186 (dk_at dksX5_check_7 6 rfl rfl)
theorem dX5_check_172 : decode cX5_check 172 = .ok (.iload_n 1, 1) := dk_27 (dk_at dksX5_check_7 9 rfl rfl)
theorem dX5_check_173 : decode cX5_check 173 = .ok (.iaload, 1) := dk_46 (dk_at dksX5_check_7 10 rfl rfl)
theorem dX5_check_174 : decode cX5_check 174 = .ok (.aload_n 0, 1) := dk_42 (dk_at dksX5_check_7 11 rfl rfl)
theorem dX5_check_175 : decode cX5_check 175 = .ok (.getfield 164, 3) := dk_180 0 164 (dk_at dksX5_check_7 12 rfl rfl)
theorem dX5_check_178 : decode cX5_check 178 = .ok (.iload_n 2, 1) := dk_28 (dk_at dksX5_check_7 15 rfl rfl)
theorem dX5_check_179 : decode cX5_check 179 = .ok (.iaload, 1) := dk_46 (dk_at dksX5_check_7 16 rfl rfl)
theorem dX5_check_180 : decode cX5_check 180 = .ok (.ishr, 1) := dk_122 (dk_at dksX5_check_7 17 rfl rfl)
theorem dX5_check_181 : decode cX5_check 181 = .ok (.iconst 1, 1) := dk_4 (dk_at dksX5_check_7 18 rfl rfl)
theorem dX5_check_182 : decode cX5_check 182 = .ok (.iand, 1) := dk_126 (dk_at dksX5_check_7 19 rfl rfl)
theorem dX5_check_183 : decode cX5_check 183 = .ok (.ifCond .ne 5, 3) := dk_154 0 5 (dk_at dksX5_check_7 20 rfl rfl)
theorem dX5_check_186 : decode cX5_check 186 = .ok (.iconst 3, 1) := dk_6 (dk_at dksX5_check_7 23 rfl rfl)
theorem dX5_check_187 : decode cX5_check 187 = .ok (.ireturn, 1) := dk_172 (dk_at dksX5_check_8 0 rfl rfl)
theorem dX5_check_188 : decode cX5_check 188 = .ok (.aload_n 0, 1) := dk_42 (dk_at dksX5_check_8 1 rfl rfl)
theorem dX5_check_189 : decode cX5_check 189 = .ok (.getfield 192, 3) := dk_180 0 192 (dk_at dksX5_check_8 2 rfl rfl)
theorem dX5_check_192 : decode cX5_check 192 = .ok (.bipush 60, 2) := dk_16 60 (dk_at dksX5_check_8 5 rfl rfl)
theorem dX5_check_194 : decode cX5_check 194 = .ok (.iload_n 1, 1) := dk_27 (dk_at dksX5_check_8 7 rfl rfl)
theorem dX5_check_195 : decode cX5_check 195 = .ok (.imul, 1) := dk_104 (dk_at dksX5_check_8 8 rfl rfl)
theorem dX5_check_196 : decode cX5_check 196 = .ok (.aload_n 0, 1) := dk_42 (dk_at dksX5_check_8 9 rfl rfl)
theorem dX5_check_197 : decode cX5_check 197 = .ok (.getfield 161, 3) := dk_180 0 161 (dk_at dksX5_check_8 10 rfl rfl)
theorem dX5_check_200 : decode cX5_check 200 = .ok (.iload_n 2, 1) := dk_28 (dk_at dksX5_check_8 13 rfl rfl)
theorem dX5_check_201 : decode cX5_check 201 = .ok (.iaload, 1) := dk_46 (dk_at dksX5_check_8 14 rfl rfl)
theorem dX5_check_202 : decode cX5_check 202 = .ok (.iadd, 1) := dk_96 (dk_at dksX5_check_8 15 rfl rfl)
theorem dX5_check_203 : decode cX5_check 203 = .ok (.baload, 1) := dk_51 (dk_at dksX5_check_8 16 rfl rfl)
theorem dX5_check_204 : decode cX5_check 204 = .ok (.ifCond .eq 5, 3) := dk_153 0 5 (dk_at dksX5_check_8 17 rfl rfl)
theorem dX5_check_207 : decode cX5_check 207 = .ok (.iconst 4, 1) := dk_7 (dk_at dksX5_check_8 20 rfl rfl)
theorem dX5_check_208 : decode cX5_check 208 = .ok (.ireturn, 1) := dk_172 (dk_at dksX5_check_8 21 rfl rfl)
theorem dX5_check_209 : decode cX5_check 209 = .ok (.aload_n 0, 1) := dk_42 (dk_at dksX5_check_8 22 rfl rfl)
theorem dX5_check_210 : decode cX5_check 210 = .ok (.getfield 155, 3) := dk_180 0 155 (dk_at dksX5_check_9 0 rfl rfl)
theorem dX5_check_213 : decode cX5_check 213 = .ok (.iload_n 2, 1) := dk_28 (dk_at dksX5_check_9 3 rfl rfl)
theorem dX5_check_214 : decode cX5_check 214 = .ok (.iaload, 1) := dk_46 (dk_at dksX5_check_9 4 rfl rfl)
theorem dX5_check_215 : decode cX5_check 215 = .ok (.iload_n 3, 1) := dk_29 (dk_at dksX5_check_9 5 rfl rfl)
theorem dX5_check_216 : decode cX5_check 216 = .ok (.ishr, 1) := dk_122 (dk_at dksX5_check_9 6 rfl rfl)
theorem dX5_check_217 : decode cX5_check 217 = .ok (.iconst 1, 1) := dk_4 (dk_at dksX5_check_9 7 rfl rfl)
theorem dX5_check_218 : decode cX5_check 218 = .ok (.iand, 1) := dk_126 (dk_at dksX5_check_9 8 rfl rfl)
theorem dX5_check_219 : decode cX5_check 219 = .ok (.ifCond .ne 7, 3) := dk_154 0 7 (dk_at dksX5_check_9 9 rfl rfl)
theorem dX5_check_222 : decode cX5_check 222 = .ok (.iconst 5, 1) := dk_8 (dk_at dksX5_check_9 12 rfl rfl)
theorem dX5_check_223 : decode cX5_check 223 = .ok (.goto 4, 3) := dk_167 0 4 (dk_at dksX5_check_9 13 rfl rfl)
theorem dX5_check_226 : decode cX5_check 226 = .ok (.iconst 0, 1) := dk_3 (dk_at dksX5_check_9 16 rfl rfl)
theorem dX5_check_227 : decode cX5_check 227 = .ok (.ireturn, 1) := dk_172 (dk_at dksX5_check_9 17 rfl rfl)
abbrev cX5_lag : ByteArray := prog_14_method_84_code
def yX5_lag : MethodName := ⟨RX5, "lag", "(I)I"⟩
def dkwX5_lag_3 : List UInt8 := [153, 0, 19, 42, 180, 0, 167, 27, 46, 42, 180, 0, 247, 100, 4, 96, 167, 0, 4, 3, 172]
abbrev dktX5_lag_3 : List UInt8 := dkwX5_lag_3 ++ []
def dkwX5_lag_2 : List UInt8 := [51, 154, 0, 20, 42, 180, 0, 247, 42, 180, 0, 167, 27, 46, 163, 0, 7, 4, 167, 0, 4, 3, 61, 28]
abbrev dktX5_lag_2 : List UInt8 := dkwX5_lag_2 ++ dktX5_lag_3
def dkwX5_lag_1 : List UInt8 := [51, 154, 0, 44, 42, 180, 0, 192, 16, 60, 42, 180, 0, 152, 27, 46, 104, 42, 180, 0, 161, 27, 46, 96]
abbrev dktX5_lag_1 : List UInt8 := dkwX5_lag_1 ++ dktX5_lag_2
def dkwX5_lag_0 : List UInt8 := [42, 42, 27, 182, 1, 118, 182, 0, 251, 154, 0, 5, 3, 172, 42, 180, 0, 146, 42, 180, 0, 161, 27, 46]
abbrev dktX5_lag_0 : List UInt8 := dkwX5_lag_0 ++ dktX5_lag_1
theorem dksX5_lag_0 : cX5_lag.data.toList.drop 0 = dktX5_lag_0 := by decide +kernel
theorem dksX5_lag_1 : cX5_lag.data.toList.drop 24 = dktX5_lag_1 := dk_seg dksX5_lag_0 24 rfl rfl
theorem dksX5_lag_2 : cX5_lag.data.toList.drop 48 = dktX5_lag_2 := dk_seg dksX5_lag_1 24 rfl rfl
theorem dksX5_lag_3 : cX5_lag.data.toList.drop 72 = dktX5_lag_3 := dk_seg dksX5_lag_2 24 rfl rfl
theorem dX5_lag_0 : decode cX5_lag 0 = .ok (.aload_n 0, 1) := dk_42 (dk_at dksX5_lag_0 0 rfl rfl)
theorem dX5_lag_1 : decode cX5_lag 1 = .ok (.aload_n 0, 1) := dk_42 (dk_at dksX5_lag_0 1 rfl rfl)
theorem dX5_lag_2 : decode cX5_lag 2 = .ok (.iload_n 1, 1) := dk_27 (dk_at dksX5_lag_0 2 rfl rfl)
theorem dX5_lag_3 : decode cX5_lag 3 = .ok (.invokevirtual 374, 3) := dk_182 1 118 (dk_at dksX5_lag_0 3 rfl rfl)
theorem dX5_lag_6 : decode cX5_lag 6 = .ok (.invokevirtual 251, 3) := dk_182 0 251 (dk_at dksX5_lag_0 6 rfl rfl)
theorem dX5_lag_9 : decode cX5_lag 9 = .ok (.ifCond .ne 5, 3) := dk_154 0 5 (dk_at dksX5_lag_0 9 rfl rfl)
theorem dX5_lag_12 : decode cX5_lag 12 = .ok (.iconst 0, 1) := dk_3 (dk_at dksX5_lag_0 12 rfl rfl)
theorem dX5_lag_13 : decode cX5_lag 13 = .ok (.ireturn, 1) := dk_172 (dk_at dksX5_lag_0 13 rfl rfl)
theorem dX5_lag_14 : decode cX5_lag 14 = .ok (.aload_n 0, 1) := dk_42 (dk_at dksX5_lag_0 14 rfl rfl)
theorem dX5_lag_15 : decode cX5_lag 15 = .ok (.getfield 146, 3) := dk_180 0 146 (dk_at dksX5_lag_0 15 rfl rfl)
theorem dX5_lag_18 : decode cX5_lag 18 = .ok (.aload_n 0, 1) := dk_42 (dk_at dksX5_lag_0 18 rfl rfl)
theorem dX5_lag_19 : decode cX5_lag 19 = .ok (.getfield 161, 3) := dk_180 0 161 (dk_at dksX5_lag_0 19 rfl rfl)
theorem dX5_lag_22 : decode cX5_lag 22 = .ok (.iload_n 1, 1) := dk_27 (dk_at dksX5_lag_0 22 rfl rfl)
theorem dX5_lag_23 : decode cX5_lag 23 = .ok (.iaload, 1) := dk_46 (dk_at dksX5_lag_0 23 rfl rfl)
theorem dX5_lag_24 : decode cX5_lag 24 = .ok (.baload, 1) := dk_51 (dk_at dksX5_lag_1 0 rfl rfl)
theorem dX5_lag_25 : decode cX5_lag 25 = .ok (.ifCond .ne 44, 3) := dk_154 0 44 (dk_at dksX5_lag_1 1 rfl rfl)
theorem dX5_lag_28 : decode cX5_lag 28 = .ok (.aload_n 0, 1) := dk_42 (dk_at dksX5_lag_1 4 rfl rfl)
theorem dX5_lag_29 : decode cX5_lag 29 = .ok (.getfield 192, 3) := dk_180 0 192 (dk_at dksX5_lag_1 5 rfl rfl)
theorem dX5_lag_32 : decode cX5_lag 32 = .ok (.bipush 60, 2) := dk_16 60 (dk_at dksX5_lag_1 8 rfl rfl)
theorem dX5_lag_34 : decode cX5_lag 34 = .ok (.aload_n 0, 1) := dk_42 (dk_at dksX5_lag_1 10 rfl rfl)
theorem dX5_lag_35 : decode cX5_lag 35 = .ok (.getfield 152, 3) := dk_180 0 152 (dk_at dksX5_lag_1 11 rfl rfl)
theorem dX5_lag_38 : decode cX5_lag 38 = .ok (.iload_n 1, 1) := dk_27 (dk_at dksX5_lag_1 14 rfl rfl)
theorem dX5_lag_39 : decode cX5_lag 39 = .ok (.iaload, 1) := dk_46 (dk_at dksX5_lag_1 15 rfl rfl)
theorem dX5_lag_40 : decode cX5_lag 40 = .ok (.imul, 1) := dk_104 (dk_at dksX5_lag_1 16 rfl rfl)
theorem dX5_lag_41 : decode cX5_lag 41 = .ok (.aload_n 0, 1) := dk_42 (dk_at dksX5_lag_1 17 rfl rfl)
theorem dX5_lag_42 : decode cX5_lag 42 = .ok (.getfield 161, 3) := dk_180 0 161 (dk_at dksX5_lag_1 18 rfl rfl)
theorem dX5_lag_45 : decode cX5_lag 45 = .ok (.iload_n 1, 1) := dk_27 (dk_at dksX5_lag_1 21 rfl rfl)
theorem dX5_lag_46 : decode cX5_lag 46 = .ok (.iaload, 1) := dk_46 (dk_at dksX5_lag_1 22 rfl rfl)
theorem dX5_lag_47 : decode cX5_lag 47 = .ok (.iadd, 1) := dk_96 (dk_at dksX5_lag_1 23 rfl rfl)
theorem dX5_lag_48 : decode cX5_lag 48 = .ok (.baload, 1) := dk_51 (dk_at dksX5_lag_2 0 rfl rfl)
theorem dX5_lag_49 : decode cX5_lag 49 = .ok (.ifCond .ne 20, 3) := dk_154 0 20 (dk_at dksX5_lag_2 1 rfl rfl)
theorem dX5_lag_52 : decode cX5_lag 52 = .ok (.aload_n 0, 1) := dk_42 (dk_at dksX5_lag_2 4 rfl rfl)
theorem dX5_lag_53 : decode cX5_lag 53 = .ok (.getfield 247, 3) := dk_180 0 247 (dk_at dksX5_lag_2 5 rfl rfl)
theorem dX5_lag_56 : decode cX5_lag 56 = .ok (.aload_n 0, 1) := dk_42 (dk_at dksX5_lag_2 8 rfl rfl)
theorem dX5_lag_57 : decode cX5_lag 57 = .ok (.getfield 167, 3) := dk_180 0 167 (dk_at dksX5_lag_2 9 rfl rfl)
theorem dX5_lag_60 : decode cX5_lag 60 = .ok (.iload_n 1, 1) := dk_27 (dk_at dksX5_lag_2 12 rfl rfl)
theorem dX5_lag_61 : decode cX5_lag 61 = .ok (.iaload, 1) := dk_46 (dk_at dksX5_lag_2 13 rfl rfl)
theorem dX5_lag_62 : decode cX5_lag 62 = .ok (.if_icmp .gt 7, 3) := dk_163 0 7 (dk_at dksX5_lag_2 14 rfl rfl)
theorem dX5_lag_65 : decode cX5_lag 65 = .ok (.iconst 1, 1) := dk_4 (dk_at dksX5_lag_2 17 rfl rfl)
theorem dX5_lag_66 : decode cX5_lag 66 = .ok (.goto 4, 3) := dk_167 0 4 (dk_at dksX5_lag_2 18 rfl rfl)
theorem dX5_lag_69 : decode cX5_lag 69 = .ok (.iconst 0, 1) := dk_3 (dk_at dksX5_lag_2 21 rfl rfl)
theorem dX5_lag_70 : decode cX5_lag 70 = .ok (.istore_n 2, 1) := dk_61 (dk_at dksX5_lag_2 22 rfl rfl)
theorem dX5_lag_71 : decode cX5_lag 71 = .ok (.iload_n 2, 1) := dk_28 (dk_at dksX5_lag_2 23 rfl rfl)
theorem dX5_lag_72 : decode cX5_lag 72 = .ok (.ifCond .eq 19, 3) := dk_153 0 19 (dk_at dksX5_lag_3 0 rfl rfl)
theorem dX5_lag_75 : decode cX5_lag 75 = .ok (.aload_n 0, 1) := dk_42 (dk_at dksX5_lag_3 3 rfl rfl)
theorem dX5_lag_76 : decode cX5_lag 76 = .ok (.getfield 167, 3) := dk_180 0 167 (dk_at dksX5_lag_3 4 rfl rfl)
theorem dX5_lag_79 : decode cX5_lag 79 = .ok (.iload_n 1, 1) := dk_27 (dk_at dksX5_lag_3 7 rfl rfl)
theorem dX5_lag_80 : decode cX5_lag 80 = .ok (.iaload, 1) := dk_46 (dk_at dksX5_lag_3 8 rfl rfl)
theorem dX5_lag_81 : decode cX5_lag 81 = .ok (.aload_n 0, 1) := dk_42 (dk_at dksX5_lag_3 9 rfl rfl)
theorem dX5_lag_82 : decode cX5_lag 82 = .ok (.getfield 247, 3) := dk_180 0 247 (dk_at dksX5_lag_3 10 rfl rfl)
theorem dX5_lag_85 : decode cX5_lag 85 = .ok (.isub, 1) := dk_100 (dk_at dksX5_lag_3 13 rfl rfl)
theorem dX5_lag_86 : decode cX5_lag 86 = .ok (.iconst 1, 1) := dk_4 (dk_at dksX5_lag_3 14 rfl rfl)
theorem dX5_lag_87 : decode cX5_lag 87 = .ok (.iadd, 1) := dk_96 (dk_at dksX5_lag_3 15 rfl rfl)
theorem dX5_lag_88 : decode cX5_lag 88 = .ok (.goto 4, 3) := dk_167 0 4 (dk_at dksX5_lag_3 16 rfl rfl)
theorem dX5_lag_91 : decode cX5_lag 91 = .ok (.iconst 0, 1) := dk_3 (dk_at dksX5_lag_3 19 rfl rfl)
theorem dX5_lag_92 : decode cX5_lag 92 = .ok (.ireturn, 1) := dk_172 (dk_at dksX5_lag_3 20 rfl rfl)
abbrev cX5_recover : ByteArray := prog_14_method_85_code
def yX5_recover : MethodName := ⟨RX5, "recover", "(I)I"⟩
def dkwX5_recover_6 : List UInt8 := [100, 172]
abbrev dktX5_recover_6 : List UInt8 := dkwX5_recover_6 ++ []
def dkwX5_recover_5 : List UInt8 := [180, 0, 201, 42, 180, 1, 124, 4, 84, 42, 89, 180, 1, 124, 4, 96, 181, 1, 124, 42, 180, 1, 124, 4]
abbrev dktX5_recover_5 : List UInt8 := dkwX5_recover_5 ++ dktX5_recover_6
def dkwX5_recover_4 : List UInt8 := [180, 0, 195, 42, 180, 1, 124, 27, 79, 42, 180, 0, 198, 42, 180, 1, 124, 42, 180, 0, 247, 79, 42]
abbrev dktX5_recover_4 : List UInt8 := dkwX5_recover_4 ++ dktX5_recover_5
def dkwX5_recover_3 : List UInt8 := [4, 167, 0, 4, 3, 62, 132, 4, 1, 167, 255, 213, 42, 28, 29, 182, 1, 18, 154, 0, 5, 3, 172, 42]
abbrev dktX5_recover_3 : List UInt8 := dkwX5_recover_3 ++ dktX5_recover_4
def dkwX5_recover_2 : List UInt8 := [153, 0, 28, 42, 180, 0, 201, 21, 4, 51, 153, 0, 14, 42, 180, 0, 195, 21, 4, 46, 27, 159, 0, 7]
abbrev dktX5_recover_2 : List UInt8 := dkwX5_recover_2 ++ dktX5_recover_3
def dkwX5_recover_1 : List UInt8 := [162, 0, 7, 4, 167, 0, 4, 3, 62, 3, 54, 4, 21, 4, 42, 180, 1, 124, 162, 0, 40, 29]
abbrev dktX5_recover_1 : List UInt8 := dkwX5_recover_1 ++ dktX5_recover_2
def dkwX5_recover_0 : List UInt8 := [27, 184, 1, 28, 61, 28, 153, 0, 25, 42, 180, 0, 29, 27, 51, 154, 0, 16, 42, 180, 1, 124, 16, 20]
abbrev dktX5_recover_0 : List UInt8 := dkwX5_recover_0 ++ dktX5_recover_1
theorem dksX5_recover_0 : cX5_recover.data.toList.drop 0 = dktX5_recover_0 := by decide +kernel
theorem dksX5_recover_1 : cX5_recover.data.toList.drop 24 = dktX5_recover_1 := dk_seg dksX5_recover_0 24 rfl rfl
theorem dksX5_recover_2 : cX5_recover.data.toList.drop 46 = dktX5_recover_2 := dk_seg dksX5_recover_1 22 rfl rfl
theorem dksX5_recover_3 : cX5_recover.data.toList.drop 70 = dktX5_recover_3 := dk_seg dksX5_recover_2 24 rfl rfl
theorem dksX5_recover_4 : cX5_recover.data.toList.drop 94 = dktX5_recover_4 := dk_seg dksX5_recover_3 24 rfl rfl
theorem dksX5_recover_5 : cX5_recover.data.toList.drop 117 = dktX5_recover_5 := dk_seg dksX5_recover_4 23 rfl rfl
theorem dksX5_recover_6 : cX5_recover.data.toList.drop 141 = dktX5_recover_6 := dk_seg dksX5_recover_5 24 rfl rfl
theorem dX5_recover_0 : decode cX5_recover 0 = .ok (.iload_n 1, 1) := dk_27 (dk_at dksX5_recover_0 0 rfl rfl)
theorem dX5_recover_1 : decode cX5_recover 1 = .ok (.invokestatic 284, 3) := dk_184 1 28 (dk_at dksX5_recover_0 1 rfl rfl)
theorem dX5_recover_4 : decode cX5_recover 4 = .ok (.istore_n 2, 1) := dk_61 (dk_at dksX5_recover_0 4 rfl rfl)
theorem dX5_recover_5 : decode cX5_recover 5 = .ok (.iload_n 2, 1) := dk_28 (dk_at dksX5_recover_0 5 rfl rfl)
theorem dX5_recover_6 : decode cX5_recover 6 = .ok (.ifCond .eq 25, 3) := dk_153 0 25 (dk_at dksX5_recover_0 6 rfl rfl)
theorem dX5_recover_9 : decode cX5_recover 9 = .ok (.aload_n 0, 1) := dk_42 (dk_at dksX5_recover_0 9 rfl rfl)
theorem dX5_recover_10 : decode cX5_recover 10 = .ok (.getfield 29, 3) := dk_180 0 29 (dk_at dksX5_recover_0 10 rfl rfl)
theorem dX5_recover_13 : decode cX5_recover 13 = .ok (.iload_n 1, 1) := dk_27 (dk_at dksX5_recover_0 13 rfl rfl)
theorem dX5_recover_14 : decode cX5_recover 14 = .ok (.baload, 1) := dk_51 (dk_at dksX5_recover_0 14 rfl rfl)
theorem dX5_recover_15 : decode cX5_recover 15 = .ok (.ifCond .ne 16, 3) := dk_154 0 16 (dk_at dksX5_recover_0 15 rfl rfl)
theorem dX5_recover_18 : decode cX5_recover 18 = .ok (.aload_n 0, 1) := dk_42 (dk_at dksX5_recover_0 18 rfl rfl)
theorem dX5_recover_19 : decode cX5_recover 19 = .ok (.getfield 380, 3) := dk_180 1 124 (dk_at dksX5_recover_0 19 rfl rfl)
theorem dX5_recover_22 : decode cX5_recover 22 = .ok (.bipush 20, 2) := dk_16 20 (dk_at dksX5_recover_0 22 rfl rfl)
theorem dX5_recover_24 : decode cX5_recover 24 = .ok (.if_icmp .ge 7, 3) := dk_162 0 7 (dk_at dksX5_recover_1 0 rfl rfl)
theorem dX5_recover_27 : decode cX5_recover 27 = .ok (.iconst 1, 1) := dk_4 (dk_at dksX5_recover_1 3 rfl rfl)
theorem dX5_recover_28 : decode cX5_recover 28 = .ok (.goto 4, 3) := dk_167 0 4 (dk_at dksX5_recover_1 4 rfl rfl)
theorem dX5_recover_31 : decode cX5_recover 31 = .ok (.iconst 0, 1) := dk_3 (dk_at dksX5_recover_1 7 rfl rfl)
theorem dX5_recover_32 : decode cX5_recover 32 = .ok (.istore_n 3, 1) := dk_62 (dk_at dksX5_recover_1 8 rfl rfl)
theorem dX5_recover_33 : decode cX5_recover 33 = .ok (.iconst 0, 1) := dk_3 (dk_at dksX5_recover_1 9 rfl rfl)
theorem dX5_recover_34 : decode cX5_recover 34 = .ok (.istore 4, 2) := dk_54 4 (dk_at dksX5_recover_1 10 rfl rfl)
theorem dX5_recover_36 : decode cX5_recover 36 = .ok (.iload 4, 2) := dk_21 4 (dk_at dksX5_recover_1 12 rfl rfl)
theorem dX5_recover_38 : decode cX5_recover 38 = .ok (.aload_n 0, 1) := dk_42 (dk_at dksX5_recover_1 14 rfl rfl)
theorem dX5_recover_39 : decode cX5_recover 39 = .ok (.getfield 380, 3) := dk_180 1 124 (dk_at dksX5_recover_1 15 rfl rfl)
theorem dX5_recover_42 : decode cX5_recover 42 = .ok (.if_icmp .ge 40, 3) := dk_162 0 40 (dk_at dksX5_recover_1 18 rfl rfl)
theorem dX5_recover_45 : decode cX5_recover 45 = .ok (.iload_n 3, 1) := dk_29 (dk_at dksX5_recover_1 21 rfl rfl)
theorem dX5_recover_46 : decode cX5_recover 46 = .ok (.ifCond .eq 28, 3) := dk_153 0 28 (dk_at dksX5_recover_2 0 rfl rfl)
theorem dX5_recover_49 : decode cX5_recover 49 = .ok (.aload_n 0, 1) := dk_42 (dk_at dksX5_recover_2 3 rfl rfl)
theorem dX5_recover_50 : decode cX5_recover 50 = .ok (.getfield 201, 3) := dk_180 0 201 (dk_at dksX5_recover_2 4 rfl rfl)
theorem dX5_recover_53 : decode cX5_recover 53 = .ok (.iload 4, 2) := dk_21 4 (dk_at dksX5_recover_2 7 rfl rfl)
theorem dX5_recover_55 : decode cX5_recover 55 = .ok (.baload, 1) := dk_51 (dk_at dksX5_recover_2 9 rfl rfl)
theorem dX5_recover_56 : decode cX5_recover 56 = .ok (.ifCond .eq 14, 3) := dk_153 0 14 (dk_at dksX5_recover_2 10 rfl rfl)
theorem dX5_recover_59 : decode cX5_recover 59 = .ok (.aload_n 0, 1) := dk_42 (dk_at dksX5_recover_2 13 rfl rfl)
theorem dX5_recover_60 : decode cX5_recover 60 = .ok (.getfield 195, 3) := dk_180 0 195 (dk_at dksX5_recover_2 14 rfl rfl)
theorem dX5_recover_63 : decode cX5_recover 63 = .ok (.iload 4, 2) := dk_21 4 (dk_at dksX5_recover_2 17 rfl rfl)
theorem dX5_recover_65 : decode cX5_recover 65 = .ok (.iaload, 1) := dk_46 (dk_at dksX5_recover_2 19 rfl rfl)
theorem dX5_recover_66 : decode cX5_recover 66 = .ok (.iload_n 1, 1) := dk_27 (dk_at dksX5_recover_2 20 rfl rfl)
theorem dX5_recover_67 : decode cX5_recover 67 = .ok (.if_icmp .eq 7, 3) := dk_159 0 7 (dk_at dksX5_recover_2 21 rfl rfl)
theorem dX5_recover_70 : decode cX5_recover 70 = .ok (.iconst 1, 1) := dk_4 (dk_at dksX5_recover_3 0 rfl rfl)
theorem dX5_recover_71 : decode cX5_recover 71 = .ok (.goto 4, 3) := dk_167 0 4 (dk_at dksX5_recover_3 1 rfl rfl)
theorem dX5_recover_74 : decode cX5_recover 74 = .ok (.iconst 0, 1) := dk_3 (dk_at dksX5_recover_3 4 rfl rfl)
theorem dX5_recover_75 : decode cX5_recover 75 = .ok (.istore_n 3, 1) := dk_62 (dk_at dksX5_recover_3 5 rfl rfl)
theorem dX5_recover_76 : decode cX5_recover 76 = .ok (.iinc 4 1, 3) := dk_132 4 1 (dk_at dksX5_recover_3 6 rfl rfl)
theorem dX5_recover_79 : decode cX5_recover 79 = .ok (.goto (-43), 3) := dk_167 255 213 (dk_at dksX5_recover_3 9 rfl rfl)
theorem dX5_recover_82 : decode cX5_recover 82 = .ok (.aload_n 0, 1) := dk_42 (dk_at dksX5_recover_3 12 rfl rfl)
theorem dX5_recover_83 : decode cX5_recover 83 = .ok (.iload_n 2, 1) := dk_28 (dk_at dksX5_recover_3 13 rfl rfl)
theorem dX5_recover_84 : decode cX5_recover 84 = .ok (.iload_n 3, 1) := dk_29 (dk_at dksX5_recover_3 14 rfl rfl)
theorem dX5_recover_85 : decode cX5_recover 85 = .ok (.invokevirtual 274, 3) := dk_182 1 18 (dk_at dksX5_recover_3 15 rfl rfl)
theorem dX5_recover_88 : decode cX5_recover 88 = .ok (.ifCond .ne 5, 3) := dk_154 0 5 (dk_at dksX5_recover_3 18 rfl rfl)
theorem dX5_recover_91 : decode cX5_recover 91 = .ok (.iconst 0, 1) := dk_3 (dk_at dksX5_recover_3 21 rfl rfl)
theorem dX5_recover_92 : decode cX5_recover 92 = .ok (.ireturn, 1) := dk_172 (dk_at dksX5_recover_3 22 rfl rfl)
theorem dX5_recover_93 : decode cX5_recover 93 = .ok (.aload_n 0, 1) := dk_42 (dk_at dksX5_recover_3 23 rfl rfl)
theorem dX5_recover_94 : decode cX5_recover 94 = .ok (.getfield 195, 3) := dk_180 0 195 (dk_at dksX5_recover_4 0 rfl rfl)
theorem dX5_recover_97 : decode cX5_recover 97 = .ok (.aload_n 0, 1) := dk_42 (dk_at dksX5_recover_4 3 rfl rfl)
theorem dX5_recover_98 : decode cX5_recover 98 = .ok (.getfield 380, 3) := dk_180 1 124 (dk_at dksX5_recover_4 4 rfl rfl)
theorem dX5_recover_101 : decode cX5_recover 101 = .ok (.iload_n 1, 1) := dk_27 (dk_at dksX5_recover_4 7 rfl rfl)
theorem dX5_recover_102 : decode cX5_recover 102 = .ok (.iastore, 1) := dk_79 (dk_at dksX5_recover_4 8 rfl rfl)
theorem dX5_recover_103 : decode cX5_recover 103 = .ok (.aload_n 0, 1) := dk_42 (dk_at dksX5_recover_4 9 rfl rfl)
theorem dX5_recover_104 : decode cX5_recover 104 = .ok (.getfield 198, 3) := dk_180 0 198 (dk_at dksX5_recover_4 10 rfl rfl)
theorem dX5_recover_107 : decode cX5_recover 107 = .ok (.aload_n 0, 1) := dk_42 (dk_at dksX5_recover_4 13 rfl rfl)
theorem dX5_recover_108 : decode cX5_recover 108 = .ok (.getfield 380, 3) := dk_180 1 124 (dk_at dksX5_recover_4 14 rfl rfl)
theorem dX5_recover_111 : decode cX5_recover 111 = .ok (.aload_n 0, 1) := dk_42 (dk_at dksX5_recover_4 17 rfl rfl)
theorem dX5_recover_112 : decode cX5_recover 112 = .ok (.getfield 247, 3) := dk_180 0 247 (dk_at dksX5_recover_4 18 rfl rfl)
theorem dX5_recover_115 : decode cX5_recover 115 = .ok (.iastore, 1) := dk_79 (dk_at dksX5_recover_4 21 rfl rfl)
theorem dX5_recover_116 : decode cX5_recover 116 = .ok (.aload_n 0, 1) := dk_42 (dk_at dksX5_recover_4 22 rfl rfl)
theorem dX5_recover_117 : decode cX5_recover 117 = .ok (.getfield 201, 3) := dk_180 0 201 (dk_at dksX5_recover_5 0 rfl rfl)
theorem dX5_recover_120 : decode cX5_recover 120 = .ok (.aload_n 0, 1) := dk_42 (dk_at dksX5_recover_5 3 rfl rfl)
theorem dX5_recover_121 : decode cX5_recover 121 = .ok (.getfield 380, 3) := dk_180 1 124 (dk_at dksX5_recover_5 4 rfl rfl)
theorem dX5_recover_124 : decode cX5_recover 124 = .ok (.iconst 1, 1) := dk_4 (dk_at dksX5_recover_5 7 rfl rfl)
theorem dX5_recover_125 : decode cX5_recover 125 = .ok (.bastore, 1) := dk_84 (dk_at dksX5_recover_5 8 rfl rfl)
theorem dX5_recover_126 : decode cX5_recover 126 = .ok (.aload_n 0, 1) := dk_42 (dk_at dksX5_recover_5 9 rfl rfl)
theorem dX5_recover_127 : decode cX5_recover 127 = .ok (.dup, 1) := dk_89 (dk_at dksX5_recover_5 10 rfl rfl)
theorem dX5_recover_128 : decode cX5_recover 128 = .ok (.getfield 380, 3) := dk_180 1 124 (dk_at dksX5_recover_5 11 rfl rfl)
theorem dX5_recover_131 : decode cX5_recover 131 = .ok (.iconst 1, 1) := dk_4 (dk_at dksX5_recover_5 14 rfl rfl)
theorem dX5_recover_132 : decode cX5_recover 132 = .ok (.iadd, 1) := dk_96 (dk_at dksX5_recover_5 15 rfl rfl)
theorem dX5_recover_133 : decode cX5_recover 133 = .ok (.putfield 380, 3) := dk_181 1 124 (dk_at dksX5_recover_5 16 rfl rfl)
theorem dX5_recover_136 : decode cX5_recover 136 = .ok (.aload_n 0, 1) := dk_42 (dk_at dksX5_recover_5 19 rfl rfl)
theorem dX5_recover_137 : decode cX5_recover 137 = .ok (.getfield 380, 3) := dk_180 1 124 (dk_at dksX5_recover_5 20 rfl rfl)
theorem dX5_recover_140 : decode cX5_recover 140 = .ok (.iconst 1, 1) := dk_4 (dk_at dksX5_recover_5 23 rfl rfl)
theorem dX5_recover_141 : decode cX5_recover 141 = .ok (.isub, 1) := dk_100 (dk_at dksX5_recover_6 0 rfl rfl)
theorem dX5_recover_142 : decode cX5_recover 142 = .ok (.ireturn, 1) := dk_172 (dk_at dksX5_recover_6 1 rfl rfl)
abbrev cX5_vouch : ByteArray := prog_14_method_89_code
def yX5_vouch : MethodName := ⟨RX5, "vouch", "(II)I"⟩
def dkwX5_vouch_6 : List UInt8 := [182, 1, 99, 96, 79, 42, 180, 0, 207, 27, 46, 172]
abbrev dktX5_vouch_6 : List UInt8 := dkwX5_vouch_6 ++ []
def dkwX5_vouch_5 : List UInt8 := [27, 92, 46, 4, 42, 180, 0, 92, 28, 46, 120, 128, 79, 42, 180, 0, 207, 27, 92, 46, 42, 28]
abbrev dktX5_vouch_5 : List UInt8 := dkwX5_vouch_5 ++ dktX5_vouch_6
def dkwX5_vouch_4 : List UInt8 := [46, 122, 4, 126, 154, 0, 7, 4, 167, 0, 4, 3, 182, 1, 18, 154, 0, 5, 3, 172, 42, 180, 0, 204]
abbrev dktX5_vouch_4 : List UInt8 := dkwX5_vouch_4 ++ dktX5_vouch_5
def dkwX5_vouch_3 : List UInt8 := [167, 0, 4, 3, 54, 4, 42, 29, 21, 4, 153, 0, 25, 42, 180, 0, 204, 27, 46, 42, 180, 0, 92, 28]
abbrev dktX5_vouch_3 : List UInt8 := dkwX5_vouch_3 ++ dktX5_vouch_4
def dkwX5_vouch_2 : List UInt8 := [182, 1, 99, 6, 161, 0, 22, 42, 180, 0, 92, 28, 46, 42, 180, 0, 195, 27, 46, 159, 0, 7, 4]
abbrev dktX5_vouch_2 : List UInt8 := dkwX5_vouch_2 ++ dktX5_vouch_3
def dkwX5_vouch_1 : List UInt8 := [153, 0, 48, 42, 180, 0, 201, 27, 51, 153, 0, 39, 42, 28, 182, 1, 130, 153, 0, 31, 42, 28]
abbrev dktX5_vouch_1 : List UInt8 := dkwX5_vouch_1 ++ dktX5_vouch_2
def dkwX5_vouch_0 : List UInt8 := [42, 27, 182, 1, 127, 153, 0, 15, 42, 28, 182, 1, 96, 153, 0, 7, 4, 167, 0, 4, 3, 62, 29]
abbrev dktX5_vouch_0 : List UInt8 := dkwX5_vouch_0 ++ dktX5_vouch_1
theorem dksX5_vouch_0 : cX5_vouch.data.toList.drop 0 = dktX5_vouch_0 := by decide +kernel
theorem dksX5_vouch_1 : cX5_vouch.data.toList.drop 23 = dktX5_vouch_1 := dk_seg dksX5_vouch_0 23 rfl rfl
theorem dksX5_vouch_2 : cX5_vouch.data.toList.drop 45 = dktX5_vouch_2 := dk_seg dksX5_vouch_1 22 rfl rfl
theorem dksX5_vouch_3 : cX5_vouch.data.toList.drop 68 = dktX5_vouch_3 := dk_seg dksX5_vouch_2 23 rfl rfl
theorem dksX5_vouch_4 : cX5_vouch.data.toList.drop 92 = dktX5_vouch_4 := dk_seg dksX5_vouch_3 24 rfl rfl
theorem dksX5_vouch_5 : cX5_vouch.data.toList.drop 116 = dktX5_vouch_5 := dk_seg dksX5_vouch_4 24 rfl rfl
theorem dksX5_vouch_6 : cX5_vouch.data.toList.drop 138 = dktX5_vouch_6 := dk_seg dksX5_vouch_5 22 rfl rfl
theorem dX5_vouch_0 : decode cX5_vouch 0 = .ok (.aload_n 0, 1) := dk_42 (dk_at dksX5_vouch_0 0 rfl rfl)
theorem dX5_vouch_1 : decode cX5_vouch 1 = .ok (.iload_n 1, 1) := dk_27 (dk_at dksX5_vouch_0 1 rfl rfl)
theorem dX5_vouch_2 : decode cX5_vouch 2 = .ok (.invokevirtual 383, 3) := dk_182 1 127 (dk_at dksX5_vouch_0 2 rfl rfl)
theorem dX5_vouch_5 : decode cX5_vouch 5 = .ok (.ifCond .eq 15, 3) := dk_153 0 15 (dk_at dksX5_vouch_0 5 rfl rfl)
theorem dX5_vouch_8 : decode cX5_vouch 8 = .ok (.aload_n 0, 1) := dk_42 (dk_at dksX5_vouch_0 8 rfl rfl)
theorem dX5_vouch_9 : decode cX5_vouch 9 = .ok (.iload_n 2, 1) := dk_28 (dk_at dksX5_vouch_0 9 rfl rfl)
theorem dX5_vouch_10 : decode cX5_vouch 10 = .ok (.invokevirtual 352, 3) := dk_182 1 96 (dk_at dksX5_vouch_0 10 rfl rfl)
theorem dX5_vouch_13 : decode cX5_vouch 13 = .ok (.ifCond .eq 7, 3) := dk_153 0 7 (dk_at dksX5_vouch_0 13 rfl rfl)
theorem dX5_vouch_16 : decode cX5_vouch 16 = .ok (.iconst 1, 1) := dk_4 (dk_at dksX5_vouch_0 16 rfl rfl)
theorem dX5_vouch_17 : decode cX5_vouch 17 = .ok (.goto 4, 3) := dk_167 0 4 (dk_at dksX5_vouch_0 17 rfl rfl)
theorem dX5_vouch_20 : decode cX5_vouch 20 = .ok (.iconst 0, 1) := dk_3 (dk_at dksX5_vouch_0 20 rfl rfl)
theorem dX5_vouch_21 : decode cX5_vouch 21 = .ok (.istore_n 3, 1) := dk_62 (dk_at dksX5_vouch_0 21 rfl rfl)
theorem dX5_vouch_22 : decode cX5_vouch 22 = .ok (.iload_n 3, 1) := dk_29 (dk_at dksX5_vouch_0 22 rfl rfl)
theorem dX5_vouch_23 : decode cX5_vouch 23 = .ok (.ifCond .eq 48, 3) := dk_153 0 48 (dk_at dksX5_vouch_1 0 rfl rfl)
theorem dX5_vouch_26 : decode cX5_vouch 26 = .ok (.aload_n 0, 1) := dk_42 (dk_at dksX5_vouch_1 3 rfl rfl)
theorem dX5_vouch_27 : decode cX5_vouch 27 = .ok (.getfield 201, 3) := dk_180 0 201 (dk_at dksX5_vouch_1 4 rfl rfl)
theorem dX5_vouch_30 : decode cX5_vouch 30 = .ok (.iload_n 1, 1) := dk_27 (dk_at dksX5_vouch_1 7 rfl rfl)
theorem dX5_vouch_31 : decode cX5_vouch 31 = .ok (.baload, 1) := dk_51 (dk_at dksX5_vouch_1 8 rfl rfl)
theorem dX5_vouch_32 : decode cX5_vouch 32 = .ok (.ifCond .eq 39, 3) := dk_153 0 39 (dk_at dksX5_vouch_1 9 rfl rfl)
theorem dX5_vouch_35 : decode cX5_vouch 35 = .ok (.aload_n 0, 1) := dk_42 (dk_at dksX5_vouch_1 12 rfl rfl)
theorem dX5_vouch_36 : decode cX5_vouch 36 = .ok (.iload_n 2, 1) := dk_28 (dk_at dksX5_vouch_1 13 rfl rfl)
theorem dX5_vouch_37 : decode cX5_vouch 37 = .ok (.invokevirtual 386, 3) := dk_182 1 130 (dk_at dksX5_vouch_1 14 rfl rfl)
theorem dX5_vouch_40 : decode cX5_vouch 40 = .ok (.ifCond .eq 31, 3) := dk_153 0 31 (dk_at dksX5_vouch_1 17 rfl rfl)
theorem dX5_vouch_43 : decode cX5_vouch 43 = .ok (.aload_n 0, 1) := dk_42 (dk_at dksX5_vouch_1 20 rfl rfl)
theorem dX5_vouch_44 : decode cX5_vouch 44 = .ok (.iload_n 2, 1) := dk_28 (dk_at dksX5_vouch_1 21 rfl rfl)
theorem dX5_vouch_45 : decode cX5_vouch 45 = .ok (.invokevirtual 355, 3) := dk_182 1 99 (dk_at dksX5_vouch_2 0 rfl rfl)
theorem dX5_vouch_48 : decode cX5_vouch 48 = .ok (.iconst 3, 1) := dk_6 (dk_at dksX5_vouch_2 3 rfl rfl)
theorem dX5_vouch_49 : decode cX5_vouch 49 = .ok (.if_icmp .lt 22, 3) := dk_161 0 22 (dk_at dksX5_vouch_2 4 rfl rfl)
theorem dX5_vouch_52 : decode cX5_vouch 52 = .ok (.aload_n 0, 1) := dk_42 (dk_at dksX5_vouch_2 7 rfl rfl)
theorem dX5_vouch_53 : decode cX5_vouch 53 = .ok (.getfield 92, 3) := dk_180 0 92 (dk_at dksX5_vouch_2 8 rfl rfl)
theorem dX5_vouch_56 : decode cX5_vouch 56 = .ok (.iload_n 2, 1) := dk_28 (dk_at dksX5_vouch_2 11 rfl rfl)
theorem dX5_vouch_57 : decode cX5_vouch 57 = .ok (.iaload, 1) := dk_46 (dk_at dksX5_vouch_2 12 rfl rfl)
theorem dX5_vouch_58 : decode cX5_vouch 58 = .ok (.aload_n 0, 1) := dk_42 (dk_at dksX5_vouch_2 13 rfl rfl)
theorem dX5_vouch_59 : decode cX5_vouch 59 = .ok (.getfield 195, 3) := dk_180 0 195 (dk_at dksX5_vouch_2 14 rfl rfl)
theorem dX5_vouch_62 : decode cX5_vouch 62 = .ok (.iload_n 1, 1) := dk_27 (dk_at dksX5_vouch_2 17 rfl rfl)
theorem dX5_vouch_63 : decode cX5_vouch 63 = .ok (.iaload, 1) := dk_46 (dk_at dksX5_vouch_2 18 rfl rfl)
theorem dX5_vouch_64 : decode cX5_vouch 64 = .ok (.if_icmp .eq 7, 3) := dk_159 0 7 (dk_at dksX5_vouch_2 19 rfl rfl)
theorem dX5_vouch_67 : decode cX5_vouch 67 = .ok (.iconst 1, 1) := dk_4 (dk_at dksX5_vouch_2 22 rfl rfl)
theorem dX5_vouch_68 : decode cX5_vouch 68 = .ok (.goto 4, 3) := dk_167 0 4 (dk_at dksX5_vouch_3 0 rfl rfl)
theorem dX5_vouch_71 : decode cX5_vouch 71 = .ok (.iconst 0, 1) := dk_3 (dk_at dksX5_vouch_3 3 rfl rfl)
theorem dX5_vouch_72 : decode cX5_vouch 72 = .ok (.istore 4, 2) := dk_54 4 (dk_at dksX5_vouch_3 4 rfl rfl)
theorem dX5_vouch_74 : decode cX5_vouch 74 = .ok (.aload_n 0, 1) := dk_42 (dk_at dksX5_vouch_3 6 rfl rfl)
theorem dX5_vouch_75 : decode cX5_vouch 75 = .ok (.iload_n 3, 1) := dk_29 (dk_at dksX5_vouch_3 7 rfl rfl)
theorem dX5_vouch_76 : decode cX5_vouch 76 = .ok (.iload 4, 2) := dk_21 4 (dk_at dksX5_vouch_3 8 rfl rfl)
theorem dX5_vouch_78 : decode cX5_vouch 78 = .ok (.ifCond .eq 25, 3) := dk_153 0 25 (dk_at dksX5_vouch_3 10 rfl rfl)
theorem dX5_vouch_81 : decode cX5_vouch 81 = .ok (.aload_n 0, 1) := dk_42 (dk_at dksX5_vouch_3 13 rfl rfl)
theorem dX5_vouch_82 : decode cX5_vouch 82 = .ok (.getfield 204, 3) := dk_180 0 204 (dk_at dksX5_vouch_3 14 rfl rfl)
theorem dX5_vouch_85 : decode cX5_vouch 85 = .ok (.iload_n 1, 1) := dk_27 (dk_at dksX5_vouch_3 17 rfl rfl)
theorem dX5_vouch_86 : decode cX5_vouch 86 = .ok (.iaload, 1) := dk_46 (dk_at dksX5_vouch_3 18 rfl rfl)
theorem dX5_vouch_87 : decode cX5_vouch 87 = .ok (.aload_n 0, 1) := dk_42 (dk_at dksX5_vouch_3 19 rfl rfl)
theorem dX5_vouch_88 : decode cX5_vouch 88 = .ok (.getfield 92, 3) := dk_180 0 92 (dk_at dksX5_vouch_3 20 rfl rfl)
theorem dX5_vouch_91 : decode cX5_vouch 91 = .ok (.iload_n 2, 1) := dk_28 (dk_at dksX5_vouch_3 23 rfl rfl)
theorem dX5_vouch_92 : decode cX5_vouch 92 = .ok (.iaload, 1) := dk_46 (dk_at dksX5_vouch_4 0 rfl rfl)
theorem dX5_vouch_93 : decode cX5_vouch 93 = .ok (.ishr, 1) := dk_122 (dk_at dksX5_vouch_4 1 rfl rfl)
theorem dX5_vouch_94 : decode cX5_vouch 94 = .ok (.iconst 1, 1) := dk_4 (dk_at dksX5_vouch_4 2 rfl rfl)
theorem dX5_vouch_95 : decode cX5_vouch 95 = .ok (.iand, 1) := dk_126 (dk_at dksX5_vouch_4 3 rfl rfl)
theorem dX5_vouch_96 : decode cX5_vouch 96 = .ok (.ifCond .ne 7, 3) := dk_154 0 7 (dk_at dksX5_vouch_4 4 rfl rfl)
theorem dX5_vouch_99 : decode cX5_vouch 99 = .ok (.iconst 1, 1) := dk_4 (dk_at dksX5_vouch_4 7 rfl rfl)
theorem dX5_vouch_100 : decode cX5_vouch 100 = .ok (.goto 4, 3) := dk_167 0 4 (dk_at dksX5_vouch_4 8 rfl rfl)
theorem dX5_vouch_103 : decode cX5_vouch 103 = .ok (.iconst 0, 1) := dk_3 (dk_at dksX5_vouch_4 11 rfl rfl)
theorem dX5_vouch_104 : decode cX5_vouch 104 = .ok (.invokevirtual 274, 3) := dk_182 1 18 (dk_at dksX5_vouch_4 12 rfl rfl)
theorem dX5_vouch_107 : decode cX5_vouch 107 = .ok (.ifCond .ne 5, 3) := dk_154 0 5 (dk_at dksX5_vouch_4 15 rfl rfl)
theorem dX5_vouch_110 : decode cX5_vouch 110 = .ok (.iconst 0, 1) := dk_3 (dk_at dksX5_vouch_4 18 rfl rfl)
theorem dX5_vouch_111 : decode cX5_vouch 111 = .ok (.ireturn, 1) := dk_172 (dk_at dksX5_vouch_4 19 rfl rfl)
theorem dX5_vouch_112 : decode cX5_vouch 112 = .ok (.aload_n 0, 1) := dk_42 (dk_at dksX5_vouch_4 20 rfl rfl)
theorem dX5_vouch_113 : decode cX5_vouch 113 = .ok (.getfield 204, 3) := dk_180 0 204 (dk_at dksX5_vouch_4 21 rfl rfl)
theorem dX5_vouch_116 : decode cX5_vouch 116 = .ok (.iload_n 1, 1) := dk_27 (dk_at dksX5_vouch_5 0 rfl rfl)
theorem dX5_vouch_117 : decode cX5_vouch 117 = .ok (.dup2, 1) := dk_92 (dk_at dksX5_vouch_5 1 rfl rfl)
theorem dX5_vouch_118 : decode cX5_vouch 118 = .ok (.iaload, 1) := dk_46 (dk_at dksX5_vouch_5 2 rfl rfl)
theorem dX5_vouch_119 : decode cX5_vouch 119 = .ok (.iconst 1, 1) := dk_4 (dk_at dksX5_vouch_5 3 rfl rfl)
theorem dX5_vouch_120 : decode cX5_vouch 120 = .ok (.aload_n 0, 1) := dk_42 (dk_at dksX5_vouch_5 4 rfl rfl)
theorem dX5_vouch_121 : decode cX5_vouch 121 = .ok (.getfield 92, 3) := dk_180 0 92 (dk_at dksX5_vouch_5 5 rfl rfl)
theorem dX5_vouch_124 : decode cX5_vouch 124 = .ok (.iload_n 2, 1) := dk_28 (dk_at dksX5_vouch_5 8 rfl rfl)
theorem dX5_vouch_125 : decode cX5_vouch 125 = .ok (.iaload, 1) := dk_46 (dk_at dksX5_vouch_5 9 rfl rfl)
theorem dX5_vouch_126 : decode cX5_vouch 126 = .ok (.ishl, 1) := dk_120 (dk_at dksX5_vouch_5 10 rfl rfl)
theorem dX5_vouch_127 : decode cX5_vouch 127 = .ok (.ior, 1) := dk_128 (dk_at dksX5_vouch_5 11 rfl rfl)
theorem dX5_vouch_128 : decode cX5_vouch 128 = .ok (.iastore, 1) := dk_79 (dk_at dksX5_vouch_5 12 rfl rfl)
theorem dX5_vouch_129 : decode cX5_vouch 129 = .ok (.aload_n 0, 1) := dk_42 (dk_at dksX5_vouch_5 13 rfl rfl)
theorem dX5_vouch_130 : decode cX5_vouch 130 = .ok (.getfield 207, 3) := dk_180 0 207 (dk_at dksX5_vouch_5 14 rfl rfl)
theorem dX5_vouch_133 : decode cX5_vouch 133 = .ok (.iload_n 1, 1) := dk_27 (dk_at dksX5_vouch_5 17 rfl rfl)
theorem dX5_vouch_134 : decode cX5_vouch 134 = .ok (.dup2, 1) := dk_92 (dk_at dksX5_vouch_5 18 rfl rfl)
theorem dX5_vouch_135 : decode cX5_vouch 135 = .ok (.iaload, 1) := dk_46 (dk_at dksX5_vouch_5 19 rfl rfl)
theorem dX5_vouch_136 : decode cX5_vouch 136 = .ok (.aload_n 0, 1) := dk_42 (dk_at dksX5_vouch_5 20 rfl rfl)
theorem dX5_vouch_137 : decode cX5_vouch 137 = .ok (.iload_n 2, 1) := dk_28 (dk_at dksX5_vouch_5 21 rfl rfl)
theorem dX5_vouch_138 : decode cX5_vouch 138 = .ok (.invokevirtual 355, 3) := dk_182 1 99 (dk_at dksX5_vouch_6 0 rfl rfl)
theorem dX5_vouch_141 : decode cX5_vouch 141 = .ok (.iadd, 1) := dk_96 (dk_at dksX5_vouch_6 3 rfl rfl)
theorem dX5_vouch_142 : decode cX5_vouch 142 = .ok (.iastore, 1) := dk_79 (dk_at dksX5_vouch_6 4 rfl rfl)
theorem dX5_vouch_143 : decode cX5_vouch 143 = .ok (.aload_n 0, 1) := dk_42 (dk_at dksX5_vouch_6 5 rfl rfl)
theorem dX5_vouch_144 : decode cX5_vouch 144 = .ok (.getfield 207, 3) := dk_180 0 207 (dk_at dksX5_vouch_6 6 rfl rfl)
theorem dX5_vouch_147 : decode cX5_vouch 147 = .ok (.iload_n 1, 1) := dk_27 (dk_at dksX5_vouch_6 9 rfl rfl)
theorem dX5_vouch_148 : decode cX5_vouch 148 = .ok (.iaload, 1) := dk_46 (dk_at dksX5_vouch_6 10 rfl rfl)
theorem dX5_vouch_149 : decode cX5_vouch 149 = .ok (.ireturn, 1) := dk_172 (dk_at dksX5_vouch_6 11 rfl rfl)
abbrev cX5_isRecovery : ByteArray := prog_14_method_87_code
def yX5_isRecovery : MethodName := ⟨RX5, "isRecovery", "(I)Z"⟩
def dkwX5_isRecovery_0 : List UInt8 := [27, 3, 42, 180, 1, 124, 4, 100, 184, 0, 228, 172]
abbrev dktX5_isRecovery_0 : List UInt8 := dkwX5_isRecovery_0 ++ []
theorem dksX5_isRecovery_0 : cX5_isRecovery.data.toList.drop 0 = dktX5_isRecovery_0 := by decide +kernel
theorem dX5_isRecovery_0 : decode cX5_isRecovery 0 = .ok (.iload_n 1, 1) := dk_27 (dk_at dksX5_isRecovery_0 0 rfl rfl)
theorem dX5_isRecovery_1 : decode cX5_isRecovery 1 = .ok (.iconst 0, 1) := dk_3 (dk_at dksX5_isRecovery_0 1 rfl rfl)
theorem dX5_isRecovery_2 : decode cX5_isRecovery 2 = .ok (.aload_n 0, 1) := dk_42 (dk_at dksX5_isRecovery_0 2 rfl rfl)
theorem dX5_isRecovery_3 : decode cX5_isRecovery 3 = .ok (.getfield 380, 3) := dk_180 1 124 (dk_at dksX5_isRecovery_0 3 rfl rfl)
theorem dX5_isRecovery_6 : decode cX5_isRecovery 6 = .ok (.iconst 1, 1) := dk_4 (dk_at dksX5_isRecovery_0 6 rfl rfl)
theorem dX5_isRecovery_7 : decode cX5_isRecovery 7 = .ok (.isub, 1) := dk_100 (dk_at dksX5_isRecovery_0 7 rfl rfl)
theorem dX5_isRecovery_8 : decode cX5_isRecovery 8 = .ok (.invokestatic 228, 3) := dk_184 0 228 (dk_at dksX5_isRecovery_0 8 rfl rfl)
theorem dX5_isRecovery_11 : decode cX5_isRecovery 11 = .ok (.ireturn, 1) := dk_172 (dk_at dksX5_isRecovery_0 11 rfl rfl)
abbrev cX5_speaks : ByteArray := prog_14_method_86_code
def yX5_speaks : MethodName := ⟨RX5, "speaks", "(I)Z"⟩
def dkwX5_speaks_1 : List UInt8 := [172]
abbrev dktX5_speaks_1 : List UInt8 := dkwX5_speaks_1 ++ []
def dkwX5_speaks_0 : List UInt8 := [42, 180, 0, 104, 27, 51, 153, 0, 17, 42, 180, 0, 101, 27, 46, 2, 160, 0, 7, 4, 167, 0, 4, 3]
abbrev dktX5_speaks_0 : List UInt8 := dkwX5_speaks_0 ++ dktX5_speaks_1
theorem dksX5_speaks_0 : cX5_speaks.data.toList.drop 0 = dktX5_speaks_0 := by decide +kernel
theorem dksX5_speaks_1 : cX5_speaks.data.toList.drop 24 = dktX5_speaks_1 := dk_seg dksX5_speaks_0 24 rfl rfl
theorem dX5_speaks_0 : decode cX5_speaks 0 = .ok (.aload_n 0, 1) := dk_42 (dk_at dksX5_speaks_0 0 rfl rfl)
theorem dX5_speaks_1 : decode cX5_speaks 1 = .ok (.getfield 104, 3) := dk_180 0 104 (dk_at dksX5_speaks_0 1 rfl rfl)
theorem dX5_speaks_4 : decode cX5_speaks 4 = .ok (.iload_n 1, 1) := dk_27 (dk_at dksX5_speaks_0 4 rfl rfl)
theorem dX5_speaks_5 : decode cX5_speaks 5 = .ok (.baload, 1) := dk_51 (dk_at dksX5_speaks_0 5 rfl rfl)
theorem dX5_speaks_6 : decode cX5_speaks 6 = .ok (.ifCond .eq 17, 3) := dk_153 0 17 (dk_at dksX5_speaks_0 6 rfl rfl)
theorem dX5_speaks_9 : decode cX5_speaks 9 = .ok (.aload_n 0, 1) := dk_42 (dk_at dksX5_speaks_0 9 rfl rfl)
theorem dX5_speaks_10 : decode cX5_speaks 10 = .ok (.getfield 101, 3) := dk_180 0 101 (dk_at dksX5_speaks_0 10 rfl rfl)
theorem dX5_speaks_13 : decode cX5_speaks 13 = .ok (.iload_n 1, 1) := dk_27 (dk_at dksX5_speaks_0 13 rfl rfl)
theorem dX5_speaks_14 : decode cX5_speaks 14 = .ok (.iaload, 1) := dk_46 (dk_at dksX5_speaks_0 14 rfl rfl)
theorem dX5_speaks_15 : decode cX5_speaks 15 = .ok (.iconst (-1), 1) := dk_2 (dk_at dksX5_speaks_0 15 rfl rfl)
theorem dX5_speaks_16 : decode cX5_speaks 16 = .ok (.if_icmp .ne 7, 3) := dk_160 0 7 (dk_at dksX5_speaks_0 16 rfl rfl)
theorem dX5_speaks_19 : decode cX5_speaks 19 = .ok (.iconst 1, 1) := dk_4 (dk_at dksX5_speaks_0 19 rfl rfl)
theorem dX5_speaks_20 : decode cX5_speaks 20 = .ok (.goto 4, 3) := dk_167 0 4 (dk_at dksX5_speaks_0 20 rfl rfl)
theorem dX5_speaks_23 : decode cX5_speaks 23 = .ok (.iconst 0, 1) := dk_3 (dk_at dksX5_speaks_0 23 rfl rfl)
theorem dX5_speaks_24 : decode cX5_speaks 24 = .ok (.ireturn, 1) := dk_172 (dk_at dksX5_speaks_1 0 rfl rfl)
abbrev cX5_stop : ByteArray := prog_14_method_90_code
def yX5_stop : MethodName := ⟨RX5, "stop", "(II)I"⟩
def dkwX5_stop_3 : List UInt8 := [154, 0, 5, 3, 172, 42, 180, 0, 201, 27, 3, 84, 42, 180, 0, 204, 27, 46, 184, 1, 133, 172]
abbrev dktX5_stop_3 : List UInt8 := dkwX5_stop_3 ++ []
def dkwX5_stop_2 : List UInt8 := [180, 0, 92, 28, 46, 42, 180, 0, 195, 27, 46, 160, 0, 7, 4, 167, 0, 4, 3, 182, 1, 18]
abbrev dktX5_stop_2 : List UInt8 := dkwX5_stop_2 ++ dktX5_stop_3
def dkwX5_stop_1 : List UInt8 := [29, 153, 0, 39, 42, 180, 0, 201, 27, 51, 153, 0, 30, 42, 28, 182, 1, 130, 153, 0, 22, 42]
abbrev dktX5_stop_1 : List UInt8 := dkwX5_stop_1 ++ dktX5_stop_2
def dkwX5_stop_0 : List UInt8 := [42, 27, 182, 1, 127, 153, 0, 15, 42, 28, 182, 1, 96, 153, 0, 7, 4, 167, 0, 4, 3, 62, 42, 29]
abbrev dktX5_stop_0 : List UInt8 := dkwX5_stop_0 ++ dktX5_stop_1
theorem dksX5_stop_0 : cX5_stop.data.toList.drop 0 = dktX5_stop_0 := by decide +kernel
theorem dksX5_stop_1 : cX5_stop.data.toList.drop 24 = dktX5_stop_1 := dk_seg dksX5_stop_0 24 rfl rfl
theorem dksX5_stop_2 : cX5_stop.data.toList.drop 46 = dktX5_stop_2 := dk_seg dksX5_stop_1 22 rfl rfl
theorem dksX5_stop_3 : cX5_stop.data.toList.drop 68 = dktX5_stop_3 := dk_seg dksX5_stop_2 22 rfl rfl
theorem dX5_stop_0 : decode cX5_stop 0 = .ok (.aload_n 0, 1) := dk_42 (dk_at dksX5_stop_0 0 rfl rfl)
theorem dX5_stop_1 : decode cX5_stop 1 = .ok (.iload_n 1, 1) := dk_27 (dk_at dksX5_stop_0 1 rfl rfl)
theorem dX5_stop_2 : decode cX5_stop 2 = .ok (.invokevirtual 383, 3) := dk_182 1 127 (dk_at dksX5_stop_0 2 rfl rfl)
theorem dX5_stop_5 : decode cX5_stop 5 = .ok (.ifCond .eq 15, 3) := dk_153 0 15 (dk_at dksX5_stop_0 5 rfl rfl)
theorem dX5_stop_8 : decode cX5_stop 8 = .ok (.aload_n 0, 1) := dk_42 (dk_at dksX5_stop_0 8 rfl rfl)
theorem dX5_stop_9 : decode cX5_stop 9 = .ok (.iload_n 2, 1) := dk_28 (dk_at dksX5_stop_0 9 rfl rfl)
theorem dX5_stop_10 : decode cX5_stop 10 = .ok (.invokevirtual 352, 3) := dk_182 1 96 (dk_at dksX5_stop_0 10 rfl rfl)
theorem dX5_stop_13 : decode cX5_stop 13 = .ok (.ifCond .eq 7, 3) := dk_153 0 7 (dk_at dksX5_stop_0 13 rfl rfl)
theorem dX5_stop_16 : decode cX5_stop 16 = .ok (.iconst 1, 1) := dk_4 (dk_at dksX5_stop_0 16 rfl rfl)
theorem dX5_stop_17 : decode cX5_stop 17 = .ok (.goto 4, 3) := dk_167 0 4 (dk_at dksX5_stop_0 17 rfl rfl)
theorem dX5_stop_20 : decode cX5_stop 20 = .ok (.iconst 0, 1) := dk_3 (dk_at dksX5_stop_0 20 rfl rfl)
theorem dX5_stop_21 : decode cX5_stop 21 = .ok (.istore_n 3, 1) := dk_62 (dk_at dksX5_stop_0 21 rfl rfl)
theorem dX5_stop_22 : decode cX5_stop 22 = .ok (.aload_n 0, 1) := dk_42 (dk_at dksX5_stop_0 22 rfl rfl)
theorem dX5_stop_23 : decode cX5_stop 23 = .ok (.iload_n 3, 1) := dk_29 (dk_at dksX5_stop_0 23 rfl rfl)
theorem dX5_stop_24 : decode cX5_stop 24 = .ok (.iload_n 3, 1) := dk_29 (dk_at dksX5_stop_1 0 rfl rfl)
theorem dX5_stop_25 : decode cX5_stop 25 = .ok (.ifCond .eq 39, 3) := dk_153 0 39 (dk_at dksX5_stop_1 1 rfl rfl)
theorem dX5_stop_28 : decode cX5_stop 28 = .ok (.aload_n 0, 1) := dk_42 (dk_at dksX5_stop_1 4 rfl rfl)
theorem dX5_stop_29 : decode cX5_stop 29 = .ok (.getfield 201, 3) := dk_180 0 201 (dk_at dksX5_stop_1 5 rfl rfl)
theorem dX5_stop_32 : decode cX5_stop 32 = .ok (.iload_n 1, 1) := dk_27 (dk_at dksX5_stop_1 8 rfl rfl)
theorem dX5_stop_33 : decode cX5_stop 33 = .ok (.baload, 1) := dk_51 (dk_at dksX5_stop_1 9 rfl rfl)
theorem dX5_stop_34 : decode cX5_stop 34 = .ok (.ifCond .eq 30, 3) := dk_153 0 30 (dk_at dksX5_stop_1 10 rfl rfl)
theorem dX5_stop_37 : decode cX5_stop 37 = .ok (.aload_n 0, 1) := dk_42 (dk_at dksX5_stop_1 13 rfl rfl)
theorem dX5_stop_38 : decode cX5_stop 38 = .ok (.iload_n 2, 1) := dk_28 (dk_at dksX5_stop_1 14 rfl rfl)
theorem dX5_stop_39 : decode cX5_stop 39 = .ok (.invokevirtual 386, 3) := dk_182 1 130 (dk_at dksX5_stop_1 15 rfl rfl)
theorem dX5_stop_42 : decode cX5_stop 42 = .ok (.ifCond .eq 22, 3) := dk_153 0 22 (dk_at dksX5_stop_1 18 rfl rfl)
theorem dX5_stop_45 : decode cX5_stop 45 = .ok (.aload_n 0, 1) := dk_42 (dk_at dksX5_stop_1 21 rfl rfl)
theorem dX5_stop_46 : decode cX5_stop 46 = .ok (.getfield 92, 3) := dk_180 0 92 (dk_at dksX5_stop_2 0 rfl rfl)
theorem dX5_stop_49 : decode cX5_stop 49 = .ok (.iload_n 2, 1) := dk_28 (dk_at dksX5_stop_2 3 rfl rfl)
theorem dX5_stop_50 : decode cX5_stop 50 = .ok (.iaload, 1) := dk_46 (dk_at dksX5_stop_2 4 rfl rfl)
theorem dX5_stop_51 : decode cX5_stop 51 = .ok (.aload_n 0, 1) := dk_42 (dk_at dksX5_stop_2 5 rfl rfl)
theorem dX5_stop_52 : decode cX5_stop 52 = .ok (.getfield 195, 3) := dk_180 0 195 (dk_at dksX5_stop_2 6 rfl rfl)
theorem dX5_stop_55 : decode cX5_stop 55 = .ok (.iload_n 1, 1) := dk_27 (dk_at dksX5_stop_2 9 rfl rfl)
theorem dX5_stop_56 : decode cX5_stop 56 = .ok (.iaload, 1) := dk_46 (dk_at dksX5_stop_2 10 rfl rfl)
theorem dX5_stop_57 : decode cX5_stop 57 = .ok (.if_icmp .ne 7, 3) := dk_160 0 7 (dk_at dksX5_stop_2 11 rfl rfl)
theorem dX5_stop_60 : decode cX5_stop 60 = .ok (.iconst 1, 1) := dk_4 (dk_at dksX5_stop_2 14 rfl rfl)
theorem dX5_stop_61 : decode cX5_stop 61 = .ok (.goto 4, 3) := dk_167 0 4 (dk_at dksX5_stop_2 15 rfl rfl)
theorem dX5_stop_64 : decode cX5_stop 64 = .ok (.iconst 0, 1) := dk_3 (dk_at dksX5_stop_2 18 rfl rfl)
theorem dX5_stop_65 : decode cX5_stop 65 = .ok (.invokevirtual 274, 3) := dk_182 1 18 (dk_at dksX5_stop_2 19 rfl rfl)
theorem dX5_stop_68 : decode cX5_stop 68 = .ok (.ifCond .ne 5, 3) := dk_154 0 5 (dk_at dksX5_stop_3 0 rfl rfl)
theorem dX5_stop_71 : decode cX5_stop 71 = .ok (.iconst 0, 1) := dk_3 (dk_at dksX5_stop_3 3 rfl rfl)
theorem dX5_stop_72 : decode cX5_stop 72 = .ok (.ireturn, 1) := dk_172 (dk_at dksX5_stop_3 4 rfl rfl)
theorem dX5_stop_73 : decode cX5_stop 73 = .ok (.aload_n 0, 1) := dk_42 (dk_at dksX5_stop_3 5 rfl rfl)
theorem dX5_stop_74 : decode cX5_stop 74 = .ok (.getfield 201, 3) := dk_180 0 201 (dk_at dksX5_stop_3 6 rfl rfl)
theorem dX5_stop_77 : decode cX5_stop 77 = .ok (.iload_n 1, 1) := dk_27 (dk_at dksX5_stop_3 9 rfl rfl)
theorem dX5_stop_78 : decode cX5_stop 78 = .ok (.iconst 0, 1) := dk_3 (dk_at dksX5_stop_3 10 rfl rfl)
theorem dX5_stop_79 : decode cX5_stop 79 = .ok (.bastore, 1) := dk_84 (dk_at dksX5_stop_3 11 rfl rfl)
theorem dX5_stop_80 : decode cX5_stop 80 = .ok (.aload_n 0, 1) := dk_42 (dk_at dksX5_stop_3 12 rfl rfl)
theorem dX5_stop_81 : decode cX5_stop 81 = .ok (.getfield 204, 3) := dk_180 0 204 (dk_at dksX5_stop_3 13 rfl rfl)
theorem dX5_stop_84 : decode cX5_stop 84 = .ok (.iload_n 1, 1) := dk_27 (dk_at dksX5_stop_3 16 rfl rfl)
theorem dX5_stop_85 : decode cX5_stop 85 = .ok (.iaload, 1) := dk_46 (dk_at dksX5_stop_3 17 rfl rfl)
theorem dX5_stop_86 : decode cX5_stop 86 = .ok (.invokestatic 389, 3) := dk_184 1 133 (dk_at dksX5_stop_3 18 rfl rfl)
theorem dX5_stop_89 : decode cX5_stop 89 = .ok (.ireturn, 1) := dk_172 (dk_at dksX5_stop_3 21 rfl rfl)
abbrev cX5_many : ByteArray := prog_14_method_88_code
def yX5_many : MethodName := ⟨RX5, "many", "(I)I"⟩
def dkwX5_many_1 : List UInt8 := [27, 172]
abbrev dktX5_many_1 : List UInt8 := dkwX5_many_1 ++ []
def dkwX5_many_0 : List UInt8 := [3, 60, 3, 61, 28, 16, 6, 162, 0, 17, 27, 26, 28, 122, 4, 126, 96, 60, 132, 2, 1, 167, 255, 239]
abbrev dktX5_many_0 : List UInt8 := dkwX5_many_0 ++ dktX5_many_1
theorem dksX5_many_0 : cX5_many.data.toList.drop 0 = dktX5_many_0 := by decide +kernel
theorem dksX5_many_1 : cX5_many.data.toList.drop 24 = dktX5_many_1 := dk_seg dksX5_many_0 24 rfl rfl
theorem dX5_many_0 : decode cX5_many 0 = .ok (.iconst 0, 1) := dk_3 (dk_at dksX5_many_0 0 rfl rfl)
theorem dX5_many_1 : decode cX5_many 1 = .ok (.istore_n 1, 1) := dk_60 (dk_at dksX5_many_0 1 rfl rfl)
theorem dX5_many_2 : decode cX5_many 2 = .ok (.iconst 0, 1) := dk_3 (dk_at dksX5_many_0 2 rfl rfl)
theorem dX5_many_3 : decode cX5_many 3 = .ok (.istore_n 2, 1) := dk_61 (dk_at dksX5_many_0 3 rfl rfl)
theorem dX5_many_4 : decode cX5_many 4 = .ok (.iload_n 2, 1) := dk_28 (dk_at dksX5_many_0 4 rfl rfl)
theorem dX5_many_5 : decode cX5_many 5 = .ok (.bipush 6, 2) := dk_16 6 (dk_at dksX5_many_0 5 rfl rfl)
theorem dX5_many_7 : decode cX5_many 7 = .ok (.if_icmp .ge 17, 3) := dk_162 0 17 (dk_at dksX5_many_0 7 rfl rfl)
theorem dX5_many_10 : decode cX5_many 10 = .ok (.iload_n 1, 1) := dk_27 (dk_at dksX5_many_0 10 rfl rfl)
theorem dX5_many_11 : decode cX5_many 11 = .ok (.iload_n 0, 1) := dk_26 (dk_at dksX5_many_0 11 rfl rfl)
theorem dX5_many_12 : decode cX5_many 12 = .ok (.iload_n 2, 1) := dk_28 (dk_at dksX5_many_0 12 rfl rfl)
theorem dX5_many_13 : decode cX5_many 13 = .ok (.ishr, 1) := dk_122 (dk_at dksX5_many_0 13 rfl rfl)
theorem dX5_many_14 : decode cX5_many 14 = .ok (.iconst 1, 1) := dk_4 (dk_at dksX5_many_0 14 rfl rfl)
theorem dX5_many_15 : decode cX5_many 15 = .ok (.iand, 1) := dk_126 (dk_at dksX5_many_0 15 rfl rfl)
theorem dX5_many_16 : decode cX5_many 16 = .ok (.iadd, 1) := dk_96 (dk_at dksX5_many_0 16 rfl rfl)
theorem dX5_many_17 : decode cX5_many 17 = .ok (.istore_n 1, 1) := dk_60 (dk_at dksX5_many_0 17 rfl rfl)
theorem dX5_many_18 : decode cX5_many 18 = .ok (.iinc 2 1, 3) := dk_132 2 1 (dk_at dksX5_many_0 18 rfl rfl)
theorem dX5_many_21 : decode cX5_many 21 = .ok (.goto (-17), 3) := dk_167 255 239 (dk_at dksX5_many_0 21 rfl rfl)
theorem dX5_many_24 : decode cX5_many 24 = .ok (.iload_n 1, 1) := dk_27 (dk_at dksX5_many_1 0 rfl rfl)
theorem dX5_many_25 : decode cX5_many 25 = .ok (.ireturn, 1) := dk_172 (dk_at dksX5_many_1 1 rfl rfl)
abbrev cX5_finish : ByteArray := prog_14_method_91_code
def yX5_finish : MethodName := ⟨RX5, "finish", "(I)I"⟩
def dkwX5_finish_8 : List UInt8 := [21, 5, 3, 182, 1, 35, 42, 16, 6, 27, 182, 0, 255, 21, 6, 172]
abbrev dktX5_finish_8 : List UInt8 := dkwX5_finish_8 ++ []
def dkwX5_finish_7 : List UInt8 := [162, 0, 22, 42, 180, 0, 7, 6, 21, 5, 104, 21, 7, 96, 3, 79, 132, 7, 1, 167, 255, 234, 42]
abbrev dktX5_finish_7 : List UInt8 := dkwX5_finish_7 ++ dktX5_finish_8
def dkwX5_finish_6 : List UInt8 := [46, 54, 5, 42, 180, 0, 201, 27, 3, 84, 42, 21, 5, 182, 1, 139, 54, 6, 3, 54, 7, 21, 7, 6]
abbrev dktX5_finish_6 : List UInt8 := dkwX5_finish_6 ++ dktX5_finish_7
def dkwX5_finish_5 : List UInt8 := [46, 21, 4, 161, 0, 7, 4, 167, 0, 4, 3, 182, 1, 18, 154, 0, 5, 3, 172, 42, 180, 0, 195, 27]
abbrev dktX5_finish_5 : List UInt8 := dkwX5_finish_5 ++ dktX5_finish_6
def dkwX5_finish_4 : List UInt8 := [167, 0, 4, 3, 96, 54, 4, 132, 5, 1, 167, 255, 210, 42, 28, 29, 153, 0, 18, 42, 180, 0, 207, 27]
abbrev dktX5_finish_4 : List UInt8 := dkwX5_finish_4 ++ dktX5_finish_5
def dkwX5_finish_3 : List UInt8 := [42, 180, 0, 7, 6, 42, 180, 0, 195, 27, 46, 104, 21, 5, 96, 46, 153, 0, 11, 21, 5, 184, 1, 136]
abbrev dktX5_finish_3 : List UInt8 := dkwX5_finish_3 ++ dktX5_finish_4
def dkwX5_finish_2 : List UInt8 := [4, 167, 0, 4, 3, 62, 3, 54, 4, 3, 54, 5, 21, 5, 6, 162, 0, 46, 28, 153, 0, 42, 21, 4]
abbrev dktX5_finish_2 : List UInt8 := dkwX5_finish_2 ++ dktX5_finish_3
def dkwX5_finish_1 : List UInt8 := [180, 0, 198, 27, 46, 100, 16, 60, 161, 0, 20, 42, 180, 0, 204, 27, 46, 184, 1, 133, 5, 161, 0, 7]
abbrev dktX5_finish_1 : List UInt8 := dkwX5_finish_1 ++ dktX5_finish_2
def dkwX5_finish_0 : List UInt8 := [42, 27, 182, 1, 127, 61, 28, 153, 0, 45, 42, 180, 0, 201, 27, 51, 153, 0, 36, 42, 180, 0, 247, 42]
abbrev dktX5_finish_0 : List UInt8 := dkwX5_finish_0 ++ dktX5_finish_1
theorem dksX5_finish_0 : cX5_finish.data.toList.drop 0 = dktX5_finish_0 := by decide +kernel
theorem dksX5_finish_1 : cX5_finish.data.toList.drop 24 = dktX5_finish_1 := dk_seg dksX5_finish_0 24 rfl rfl
theorem dksX5_finish_2 : cX5_finish.data.toList.drop 48 = dktX5_finish_2 := dk_seg dksX5_finish_1 24 rfl rfl
theorem dksX5_finish_3 : cX5_finish.data.toList.drop 72 = dktX5_finish_3 := dk_seg dksX5_finish_2 24 rfl rfl
theorem dksX5_finish_4 : cX5_finish.data.toList.drop 96 = dktX5_finish_4 := dk_seg dksX5_finish_3 24 rfl rfl
theorem dksX5_finish_5 : cX5_finish.data.toList.drop 120 = dktX5_finish_5 := dk_seg dksX5_finish_4 24 rfl rfl
theorem dksX5_finish_6 : cX5_finish.data.toList.drop 144 = dktX5_finish_6 := dk_seg dksX5_finish_5 24 rfl rfl
theorem dksX5_finish_7 : cX5_finish.data.toList.drop 168 = dktX5_finish_7 := dk_seg dksX5_finish_6 24 rfl rfl
theorem dksX5_finish_8 : cX5_finish.data.toList.drop 191 = dktX5_finish_8 := dk_seg dksX5_finish_7 23 rfl rfl
theorem dX5_finish_0 : decode cX5_finish 0 = .ok (.aload_n 0, 1) := dk_42 (dk_at dksX5_finish_0 0 rfl rfl)
theorem dX5_finish_1 : decode cX5_finish 1 = .ok (.iload_n 1, 1) := dk_27 (dk_at dksX5_finish_0 1 rfl rfl)
theorem dX5_finish_2 : decode cX5_finish 2 = .ok (.invokevirtual 383, 3) := dk_182 1 127 (dk_at dksX5_finish_0 2 rfl rfl)
theorem dX5_finish_5 : decode cX5_finish 5 = .ok (.istore_n 2, 1) := dk_61 (dk_at dksX5_finish_0 5 rfl rfl)
theorem dX5_finish_6 : decode cX5_finish 6 = .ok (.iload_n 2, 1) := dk_28 (dk_at dksX5_finish_0 6 rfl rfl)
theorem dX5_finish_7 : decode cX5_finish 7 = .ok (.ifCond .eq 45, 3) := dk_153 0 45 (dk_at dksX5_finish_0 7 rfl rfl)
theorem dX5_finish_10 : decode cX5_finish 10 = .ok (.aload_n 0, 1) := dk_42 (dk_at dksX5_finish_0 10 rfl rfl)
theorem dX5_finish_11 : decode cX5_finish 11 = .ok (.getfield 201, 3) := dk_180 0 201 (dk_at dksX5_finish_0 11 rfl rfl)
theorem dX5_finish_14 : decode cX5_finish 14 = .ok (.iload_n 1, 1) := dk_27 (dk_at dksX5_finish_0 14 rfl rfl)
theorem dX5_finish_15 : decode cX5_finish 15 = .ok (.baload, 1) := dk_51 (dk_at dksX5_finish_0 15 rfl rfl)
theorem dX5_finish_16 : decode cX5_finish 16 = .ok (.ifCond .eq 36, 3) := dk_153 0 36 (dk_at dksX5_finish_0 16 rfl rfl)
theorem dX5_finish_19 : decode cX5_finish 19 = .ok (.aload_n 0, 1) := dk_42 (dk_at dksX5_finish_0 19 rfl rfl)
theorem dX5_finish_20 : decode cX5_finish 20 = .ok (.getfield 247, 3) := dk_180 0 247 (dk_at dksX5_finish_0 20 rfl rfl)
theorem dX5_finish_23 : decode cX5_finish 23 = .ok (.aload_n 0, 1) := dk_42 (dk_at dksX5_finish_0 23 rfl rfl)
theorem dX5_finish_24 : decode cX5_finish 24 = .ok (.getfield 198, 3) := dk_180 0 198 (dk_at dksX5_finish_1 0 rfl rfl)
theorem dX5_finish_27 : decode cX5_finish 27 = .ok (.iload_n 1, 1) := dk_27 (dk_at dksX5_finish_1 3 rfl rfl)
theorem dX5_finish_28 : decode cX5_finish 28 = .ok (.iaload, 1) := dk_46 (dk_at dksX5_finish_1 4 rfl rfl)
theorem dX5_finish_29 : decode cX5_finish 29 = .ok (.isub, 1) := dk_100 (dk_at dksX5_finish_1 5 rfl rfl)
theorem dX5_finish_30 : decode cX5_finish 30 = .ok (.bipush 60, 2) := dk_16 60 (dk_at dksX5_finish_1 6 rfl rfl)
theorem dX5_finish_32 : decode cX5_finish 32 = .ok (.if_icmp .lt 20, 3) := dk_161 0 20 (dk_at dksX5_finish_1 8 rfl rfl)
theorem dX5_finish_35 : decode cX5_finish 35 = .ok (.aload_n 0, 1) := dk_42 (dk_at dksX5_finish_1 11 rfl rfl)
theorem dX5_finish_36 : decode cX5_finish 36 = .ok (.getfield 204, 3) := dk_180 0 204 (dk_at dksX5_finish_1 12 rfl rfl)
theorem dX5_finish_39 : decode cX5_finish 39 = .ok (.iload_n 1, 1) := dk_27 (dk_at dksX5_finish_1 15 rfl rfl)
theorem dX5_finish_40 : decode cX5_finish 40 = .ok (.iaload, 1) := dk_46 (dk_at dksX5_finish_1 16 rfl rfl)
theorem dX5_finish_41 : decode cX5_finish 41 = .ok (.invokestatic 389, 3) := dk_184 1 133 (dk_at dksX5_finish_1 17 rfl rfl)
theorem dX5_finish_44 : decode cX5_finish 44 = .ok (.iconst 2, 1) := dk_5 (dk_at dksX5_finish_1 20 rfl rfl)
theorem dX5_finish_45 : decode cX5_finish 45 = .ok (.if_icmp .lt 7, 3) := dk_161 0 7 (dk_at dksX5_finish_1 21 rfl rfl)
theorem dX5_finish_48 : decode cX5_finish 48 = .ok (.iconst 1, 1) := dk_4 (dk_at dksX5_finish_2 0 rfl rfl)
theorem dX5_finish_49 : decode cX5_finish 49 = .ok (.goto 4, 3) := dk_167 0 4 (dk_at dksX5_finish_2 1 rfl rfl)
theorem dX5_finish_52 : decode cX5_finish 52 = .ok (.iconst 0, 1) := dk_3 (dk_at dksX5_finish_2 4 rfl rfl)
theorem dX5_finish_53 : decode cX5_finish 53 = .ok (.istore_n 3, 1) := dk_62 (dk_at dksX5_finish_2 5 rfl rfl)
theorem dX5_finish_54 : decode cX5_finish 54 = .ok (.iconst 0, 1) := dk_3 (dk_at dksX5_finish_2 6 rfl rfl)
theorem dX5_finish_55 : decode cX5_finish 55 = .ok (.istore 4, 2) := dk_54 4 (dk_at dksX5_finish_2 7 rfl rfl)
theorem dX5_finish_57 : decode cX5_finish 57 = .ok (.iconst 0, 1) := dk_3 (dk_at dksX5_finish_2 9 rfl rfl)
theorem dX5_finish_58 : decode cX5_finish 58 = .ok (.istore 5, 2) := dk_54 5 (dk_at dksX5_finish_2 10 rfl rfl)
theorem dX5_finish_60 : decode cX5_finish 60 = .ok (.iload 5, 2) := dk_21 5 (dk_at dksX5_finish_2 12 rfl rfl)
theorem dX5_finish_62 : decode cX5_finish 62 = .ok (.iconst 3, 1) := dk_6 (dk_at dksX5_finish_2 14 rfl rfl)
theorem dX5_finish_63 : decode cX5_finish 63 = .ok (.if_icmp .ge 46, 3) := dk_162 0 46 (dk_at dksX5_finish_2 15 rfl rfl)
theorem dX5_finish_66 : decode cX5_finish 66 = .ok (.iload_n 2, 1) := dk_28 (dk_at dksX5_finish_2 18 rfl rfl)
theorem dX5_finish_67 : decode cX5_finish 67 = .ok (.ifCond .eq 42, 3) := dk_153 0 42 (dk_at dksX5_finish_2 19 rfl rfl)
theorem dX5_finish_70 : decode cX5_finish 70 = .ok (.iload 4, 2) := dk_21 4 (dk_at dksX5_finish_2 22 rfl rfl)
theorem dX5_finish_72 : decode cX5_finish 72 = .ok (.aload_n 0, 1) := dk_42 (dk_at dksX5_finish_3 0 rfl rfl)
theorem dX5_finish_73 : decode cX5_finish 73 = .ok (.getfield 7, 3) := dk_180 0 7 (dk_at dksX5_finish_3 1 rfl rfl)
theorem dX5_finish_76 : decode cX5_finish 76 = .ok (.iconst 3, 1) := dk_6 (dk_at dksX5_finish_3 4 rfl rfl)
theorem dX5_finish_77 : decode cX5_finish 77 = .ok (.aload_n 0, 1) := dk_42 (dk_at dksX5_finish_3 5 rfl rfl)
theorem dX5_finish_78 : decode cX5_finish 78 = .ok (.getfield 195, 3) := dk_180 0 195 (dk_at dksX5_finish_3 6 rfl rfl)
theorem dX5_finish_81 : decode cX5_finish 81 = .ok (.iload_n 1, 1) := dk_27 (dk_at dksX5_finish_3 9 rfl rfl)
theorem dX5_finish_82 : decode cX5_finish 82 = .ok (.iaload, 1) := dk_46 (dk_at dksX5_finish_3 10 rfl rfl)
theorem dX5_finish_83 : decode cX5_finish 83 = .ok (.imul, 1) := dk_104 (dk_at dksX5_finish_3 11 rfl rfl)
theorem dX5_finish_84 : decode cX5_finish 84 = .ok (.iload 5, 2) := dk_21 5 (dk_at dksX5_finish_3 12 rfl rfl)
theorem dX5_finish_86 : decode cX5_finish 86 = .ok (.iadd, 1) := dk_96 (dk_at dksX5_finish_3 14 rfl rfl)
theorem dX5_finish_87 : decode cX5_finish 87 = .ok (.iaload, 1) := dk_46 (dk_at dksX5_finish_3 15 rfl rfl)
theorem dX5_finish_88 : decode cX5_finish 88 = .ok (.ifCond .eq 11, 3) := dk_153 0 11 (dk_at dksX5_finish_3 16 rfl rfl)
theorem dX5_finish_91 : decode cX5_finish 91 = .ok (.iload 5, 2) := dk_21 5 (dk_at dksX5_finish_3 19 rfl rfl)
theorem dX5_finish_93 : decode cX5_finish 93 = .ok (.invokestatic 392, 3) := dk_184 1 136 (dk_at dksX5_finish_3 21 rfl rfl)
theorem dX5_finish_96 : decode cX5_finish 96 = .ok (.goto 4, 3) := dk_167 0 4 (dk_at dksX5_finish_4 0 rfl rfl)
theorem dX5_finish_99 : decode cX5_finish 99 = .ok (.iconst 0, 1) := dk_3 (dk_at dksX5_finish_4 3 rfl rfl)
theorem dX5_finish_100 : decode cX5_finish 100 = .ok (.iadd, 1) := dk_96 (dk_at dksX5_finish_4 4 rfl rfl)
theorem dX5_finish_101 : decode cX5_finish 101 = .ok (.istore 4, 2) := dk_54 4 (dk_at dksX5_finish_4 5 rfl rfl)
theorem dX5_finish_103 : decode cX5_finish 103 = .ok (.iinc 5 1, 3) := dk_132 5 1 (dk_at dksX5_finish_4 7 rfl rfl)
theorem dX5_finish_106 : decode cX5_finish 106 = .ok (.goto (-46), 3) := dk_167 255 210 (dk_at dksX5_finish_4 10 rfl rfl)
theorem dX5_finish_109 : decode cX5_finish 109 = .ok (.aload_n 0, 1) := dk_42 (dk_at dksX5_finish_4 13 rfl rfl)
theorem dX5_finish_110 : decode cX5_finish 110 = .ok (.iload_n 2, 1) := dk_28 (dk_at dksX5_finish_4 14 rfl rfl)
theorem dX5_finish_111 : decode cX5_finish 111 = .ok (.iload_n 3, 1) := dk_29 (dk_at dksX5_finish_4 15 rfl rfl)
theorem dX5_finish_112 : decode cX5_finish 112 = .ok (.ifCond .eq 18, 3) := dk_153 0 18 (dk_at dksX5_finish_4 16 rfl rfl)
theorem dX5_finish_115 : decode cX5_finish 115 = .ok (.aload_n 0, 1) := dk_42 (dk_at dksX5_finish_4 19 rfl rfl)
theorem dX5_finish_116 : decode cX5_finish 116 = .ok (.getfield 207, 3) := dk_180 0 207 (dk_at dksX5_finish_4 20 rfl rfl)
theorem dX5_finish_119 : decode cX5_finish 119 = .ok (.iload_n 1, 1) := dk_27 (dk_at dksX5_finish_4 23 rfl rfl)
theorem dX5_finish_120 : decode cX5_finish 120 = .ok (.iaload, 1) := dk_46 (dk_at dksX5_finish_5 0 rfl rfl)
theorem dX5_finish_121 : decode cX5_finish 121 = .ok (.iload 4, 2) := dk_21 4 (dk_at dksX5_finish_5 1 rfl rfl)
theorem dX5_finish_123 : decode cX5_finish 123 = .ok (.if_icmp .lt 7, 3) := dk_161 0 7 (dk_at dksX5_finish_5 3 rfl rfl)
theorem dX5_finish_126 : decode cX5_finish 126 = .ok (.iconst 1, 1) := dk_4 (dk_at dksX5_finish_5 6 rfl rfl)
theorem dX5_finish_127 : decode cX5_finish 127 = .ok (.goto 4, 3) := dk_167 0 4 (dk_at dksX5_finish_5 7 rfl rfl)
theorem dX5_finish_130 : decode cX5_finish 130 = .ok (.iconst 0, 1) := dk_3 (dk_at dksX5_finish_5 10 rfl rfl)
theorem dX5_finish_131 : decode cX5_finish 131 = .ok (.invokevirtual 274, 3) := dk_182 1 18 (dk_at dksX5_finish_5 11 rfl rfl)
theorem dX5_finish_134 : decode cX5_finish 134 = .ok (.ifCond .ne 5, 3) := dk_154 0 5 (dk_at dksX5_finish_5 14 rfl rfl)
theorem dX5_finish_137 : decode cX5_finish 137 = .ok (.iconst 0, 1) := dk_3 (dk_at dksX5_finish_5 17 rfl rfl)
theorem dX5_finish_138 : decode cX5_finish 138 = .ok (.ireturn, 1) := dk_172 (dk_at dksX5_finish_5 18 rfl rfl)
theorem dX5_finish_139 : decode cX5_finish 139 = .ok (.aload_n 0, 1) := dk_42 (dk_at dksX5_finish_5 19 rfl rfl)
theorem dX5_finish_140 : decode cX5_finish 140 = .ok (.getfield 195, 3) := dk_180 0 195 (dk_at dksX5_finish_5 20 rfl rfl)
theorem dX5_finish_143 : decode cX5_finish 143 = .ok (.iload_n 1, 1) := dk_27 (dk_at dksX5_finish_5 23 rfl rfl)
theorem dX5_finish_144 : decode cX5_finish 144 = .ok (.iaload, 1) := dk_46 (dk_at dksX5_finish_6 0 rfl rfl)
theorem dX5_finish_145 : decode cX5_finish 145 = .ok (.istore 5, 2) := dk_54 5 (dk_at dksX5_finish_6 1 rfl rfl)
theorem dX5_finish_147 : decode cX5_finish 147 = .ok (.aload_n 0, 1) := dk_42 (dk_at dksX5_finish_6 3 rfl rfl)
theorem dX5_finish_148 : decode cX5_finish 148 = .ok (.getfield 201, 3) := dk_180 0 201 (dk_at dksX5_finish_6 4 rfl rfl)
theorem dX5_finish_151 : decode cX5_finish 151 = .ok (.iload_n 1, 1) := dk_27 (dk_at dksX5_finish_6 7 rfl rfl)
theorem dX5_finish_152 : decode cX5_finish 152 = .ok (.iconst 0, 1) := dk_3 (dk_at dksX5_finish_6 8 rfl rfl)
theorem dX5_finish_153 : decode cX5_finish 153 = .ok (.bastore, 1) := dk_84 (dk_at dksX5_finish_6 9 rfl rfl)
theorem dX5_finish_154 : decode cX5_finish 154 = .ok (.aload_n 0, 1) := dk_42 (dk_at dksX5_finish_6 10 rfl rfl)
theorem dX5_finish_155 : decode cX5_finish 155 = .ok (.iload 5, 2) := dk_21 5 (dk_at dksX5_finish_6 11 rfl rfl)
theorem dX5_finish_157 : decode cX5_finish 157 = .ok (.invokevirtual 395, 3) := dk_182 1 139 (dk_at dksX5_finish_6 13 rfl rfl)
theorem dX5_finish_160 : decode cX5_finish 160 = .ok (.istore 6, 2) := dk_54 6 (dk_at dksX5_finish_6 16 rfl rfl)
theorem dX5_finish_162 : decode cX5_finish 162 = .ok (.iconst 0, 1) := dk_3 (dk_at dksX5_finish_6 18 rfl rfl)
theorem dX5_finish_163 : decode cX5_finish 163 = .ok (.istore 7, 2) := dk_54 7 (dk_at dksX5_finish_6 19 rfl rfl)
theorem dX5_finish_165 : decode cX5_finish 165 = .ok (.iload 7, 2) := dk_21 7 (dk_at dksX5_finish_6 21 rfl rfl)
theorem dX5_finish_167 : decode cX5_finish 167 = .ok (.iconst 3, 1) := dk_6 (dk_at dksX5_finish_6 23 rfl rfl)
theorem dX5_finish_168 : decode cX5_finish 168 = .ok (.if_icmp .ge 22, 3) := dk_162 0 22 (dk_at dksX5_finish_7 0 rfl rfl)
theorem dX5_finish_171 : decode cX5_finish 171 = .ok (.aload_n 0, 1) := dk_42 (dk_at dksX5_finish_7 3 rfl rfl)
theorem dX5_finish_172 : decode cX5_finish 172 = .ok (.getfield 7, 3) := dk_180 0 7 (dk_at dksX5_finish_7 4 rfl rfl)
theorem dX5_finish_175 : decode cX5_finish 175 = .ok (.iconst 3, 1) := dk_6 (dk_at dksX5_finish_7 7 rfl rfl)
theorem dX5_finish_176 : decode cX5_finish 176 = .ok (.iload 5, 2) := dk_21 5 (dk_at dksX5_finish_7 8 rfl rfl)
theorem dX5_finish_178 : decode cX5_finish 178 = .ok (.imul, 1) := dk_104 (dk_at dksX5_finish_7 10 rfl rfl)
theorem dX5_finish_179 : decode cX5_finish 179 = .ok (.iload 7, 2) := dk_21 7 (dk_at dksX5_finish_7 11 rfl rfl)
theorem dX5_finish_181 : decode cX5_finish 181 = .ok (.iadd, 1) := dk_96 (dk_at dksX5_finish_7 13 rfl rfl)
theorem dX5_finish_182 : decode cX5_finish 182 = .ok (.iconst 0, 1) := dk_3 (dk_at dksX5_finish_7 14 rfl rfl)
theorem dX5_finish_183 : decode cX5_finish 183 = .ok (.iastore, 1) := dk_79 (dk_at dksX5_finish_7 15 rfl rfl)
theorem dX5_finish_184 : decode cX5_finish 184 = .ok (.iinc 7 1, 3) := dk_132 7 1 (dk_at dksX5_finish_7 16 rfl rfl)
theorem dX5_finish_187 : decode cX5_finish 187 = .ok (.goto (-22), 3) := dk_167 255 234 (dk_at dksX5_finish_7 19 rfl rfl)
theorem dX5_finish_190 : decode cX5_finish 190 = .ok (.aload_n 0, 1) := dk_42 (dk_at dksX5_finish_7 22 rfl rfl)
theorem dX5_finish_191 : decode cX5_finish 191 = .ok (.iload 5, 2) := dk_21 5 (dk_at dksX5_finish_8 0 rfl rfl)
theorem dX5_finish_193 : decode cX5_finish 193 = .ok (.iconst 0, 1) := dk_3 (dk_at dksX5_finish_8 2 rfl rfl)
theorem dX5_finish_194 : decode cX5_finish 194 = .ok (.invokevirtual 291, 3) := dk_182 1 35 (dk_at dksX5_finish_8 3 rfl rfl)
theorem dX5_finish_197 : decode cX5_finish 197 = .ok (.aload_n 0, 1) := dk_42 (dk_at dksX5_finish_8 6 rfl rfl)
theorem dX5_finish_198 : decode cX5_finish 198 = .ok (.bipush 6, 2) := dk_16 6 (dk_at dksX5_finish_8 7 rfl rfl)
theorem dX5_finish_200 : decode cX5_finish 200 = .ok (.iload_n 1, 1) := dk_27 (dk_at dksX5_finish_8 9 rfl rfl)
theorem dX5_finish_201 : decode cX5_finish 201 = .ok (.invokevirtual 255, 3) := dk_182 0 255 (dk_at dksX5_finish_8 10 rfl rfl)
theorem dX5_finish_204 : decode cX5_finish 204 = .ok (.iload 6, 2) := dk_21 6 (dk_at dksX5_finish_8 13 rfl rfl)
theorem dX5_finish_206 : decode cX5_finish 206 = .ok (.ireturn, 1) := dk_172 (dk_at dksX5_finish_8 15 rfl rfl)
abbrev cX5_weight : ByteArray := prog_14_method_28_code
def yX5_weight : MethodName := ⟨RX5, "weight", "(I)I"⟩
def dkwX5_weight_0 : List UInt8 := [26, 4, 96, 172]
abbrev dktX5_weight_0 : List UInt8 := dkwX5_weight_0 ++ []
theorem dksX5_weight_0 : cX5_weight.data.toList.drop 0 = dktX5_weight_0 := by decide +kernel
theorem dX5_weight_0 : decode cX5_weight 0 = .ok (.iload_n 0, 1) := dk_26 (dk_at dksX5_weight_0 0 rfl rfl)
theorem dX5_weight_1 : decode cX5_weight 1 = .ok (.iconst 1, 1) := dk_4 (dk_at dksX5_weight_0 1 rfl rfl)
theorem dX5_weight_2 : decode cX5_weight 2 = .ok (.iadd, 1) := dk_96 (dk_at dksX5_weight_0 2 rfl rfl)
theorem dX5_weight_3 : decode cX5_weight 3 = .ok (.ireturn, 1) := dk_172 (dk_at dksX5_weight_0 3 rfl rfl)
abbrev cX5_endAllOf : ByteArray := prog_14_method_23_code
def yX5_endAllOf : MethodName := ⟨RX5, "endAllOf", "(I)I"⟩
def dkwX5_endAllOf_2 : List UInt8 := [167, 255, 214, 28, 172]
abbrev dktX5_endAllOf_2 : List UInt8 := dkwX5_endAllOf_2 ++ []
def dkwX5_endAllOf_1 : List UInt8 := [180, 0, 92, 29, 46, 27, 160, 0, 11, 42, 29, 182, 1, 14, 167, 0, 4, 3, 96, 61, 132, 3, 1]
abbrev dktX5_endAllOf_1 : List UInt8 := dkwX5_endAllOf_1 ++ dktX5_endAllOf_2
def dkwX5_endAllOf_0 : List UInt8 := [3, 61, 3, 62, 29, 42, 180, 0, 235, 162, 0, 40, 28, 42, 180, 0, 104, 29, 51, 153, 0, 21, 42]
abbrev dktX5_endAllOf_0 : List UInt8 := dkwX5_endAllOf_0 ++ dktX5_endAllOf_1
theorem dksX5_endAllOf_0 : cX5_endAllOf.data.toList.drop 0 = dktX5_endAllOf_0 := by decide +kernel
theorem dksX5_endAllOf_1 : cX5_endAllOf.data.toList.drop 23 = dktX5_endAllOf_1 := dk_seg dksX5_endAllOf_0 23 rfl rfl
theorem dksX5_endAllOf_2 : cX5_endAllOf.data.toList.drop 46 = dktX5_endAllOf_2 := dk_seg dksX5_endAllOf_1 23 rfl rfl
theorem dX5_endAllOf_0 : decode cX5_endAllOf 0 = .ok (.iconst 0, 1) := dk_3 (dk_at dksX5_endAllOf_0 0 rfl rfl)
theorem dX5_endAllOf_1 : decode cX5_endAllOf 1 = .ok (.istore_n 2, 1) := dk_61 (dk_at dksX5_endAllOf_0 1 rfl rfl)
theorem dX5_endAllOf_2 : decode cX5_endAllOf 2 = .ok (.iconst 0, 1) := dk_3 (dk_at dksX5_endAllOf_0 2 rfl rfl)
theorem dX5_endAllOf_3 : decode cX5_endAllOf 3 = .ok (.istore_n 3, 1) := dk_62 (dk_at dksX5_endAllOf_0 3 rfl rfl)
theorem dX5_endAllOf_4 : decode cX5_endAllOf 4 = .ok (.iload_n 3, 1) := dk_29 (dk_at dksX5_endAllOf_0 4 rfl rfl)
theorem dX5_endAllOf_5 : decode cX5_endAllOf 5 = .ok (.aload_n 0, 1) := dk_42 (dk_at dksX5_endAllOf_0 5 rfl rfl)
theorem dX5_endAllOf_6 : decode cX5_endAllOf 6 = .ok (.getfield 235, 3) := dk_180 0 235 (dk_at dksX5_endAllOf_0 6 rfl rfl)
theorem dX5_endAllOf_9 : decode cX5_endAllOf 9 = .ok (.if_icmp .ge 40, 3) := dk_162 0 40 (dk_at dksX5_endAllOf_0 9 rfl rfl)
theorem dX5_endAllOf_12 : decode cX5_endAllOf 12 = .ok (.iload_n 2, 1) := dk_28 (dk_at dksX5_endAllOf_0 12 rfl rfl)
theorem dX5_endAllOf_13 : decode cX5_endAllOf 13 = .ok (.aload_n 0, 1) := dk_42 (dk_at dksX5_endAllOf_0 13 rfl rfl)
theorem dX5_endAllOf_14 : decode cX5_endAllOf 14 = .ok (.getfield 104, 3) := dk_180 0 104 (dk_at dksX5_endAllOf_0 14 rfl rfl)
theorem dX5_endAllOf_17 : decode cX5_endAllOf 17 = .ok (.iload_n 3, 1) := dk_29 (dk_at dksX5_endAllOf_0 17 rfl rfl)
theorem dX5_endAllOf_18 : decode cX5_endAllOf 18 = .ok (.baload, 1) := dk_51 (dk_at dksX5_endAllOf_0 18 rfl rfl)
theorem dX5_endAllOf_19 : decode cX5_endAllOf 19 = .ok (.ifCond .eq 21, 3) := dk_153 0 21 (dk_at dksX5_endAllOf_0 19 rfl rfl)
theorem dX5_endAllOf_22 : decode cX5_endAllOf 22 = .ok (.aload_n 0, 1) := dk_42 (dk_at dksX5_endAllOf_0 22 rfl rfl)
theorem dX5_endAllOf_23 : decode cX5_endAllOf 23 = .ok (.getfield 92, 3) := dk_180 0 92 (dk_at dksX5_endAllOf_1 0 rfl rfl)
theorem dX5_endAllOf_26 : decode cX5_endAllOf 26 = .ok (.iload_n 3, 1) := dk_29 (dk_at dksX5_endAllOf_1 3 rfl rfl)
theorem dX5_endAllOf_27 : decode cX5_endAllOf 27 = .ok (.iaload, 1) := dk_46 (dk_at dksX5_endAllOf_1 4 rfl rfl)
theorem dX5_endAllOf_28 : decode cX5_endAllOf 28 = .ok (.iload_n 1, 1) := dk_27 (dk_at dksX5_endAllOf_1 5 rfl rfl)
theorem dX5_endAllOf_29 : decode cX5_endAllOf 29 = .ok (.if_icmp .ne 11, 3) := dk_160 0 11 (dk_at dksX5_endAllOf_1 6 rfl rfl)
theorem dX5_endAllOf_32 : decode cX5_endAllOf 32 = .ok (.aload_n 0, 1) := dk_42 (dk_at dksX5_endAllOf_1 9 rfl rfl)
theorem dX5_endAllOf_33 : decode cX5_endAllOf 33 = .ok (.iload_n 3, 1) := dk_29 (dk_at dksX5_endAllOf_1 10 rfl rfl)
theorem dX5_endAllOf_34 : decode cX5_endAllOf 34 = .ok (.invokevirtual 270, 3) := dk_182 1 14 (dk_at dksX5_endAllOf_1 11 rfl rfl)
theorem dX5_endAllOf_37 : decode cX5_endAllOf 37 = .ok (.goto 4, 3) := dk_167 0 4 (dk_at dksX5_endAllOf_1 14 rfl rfl)
theorem dX5_endAllOf_40 : decode cX5_endAllOf 40 = .ok (.iconst 0, 1) := dk_3 (dk_at dksX5_endAllOf_1 17 rfl rfl)
theorem dX5_endAllOf_41 : decode cX5_endAllOf 41 = .ok (.iadd, 1) := dk_96 (dk_at dksX5_endAllOf_1 18 rfl rfl)
theorem dX5_endAllOf_42 : decode cX5_endAllOf 42 = .ok (.istore_n 2, 1) := dk_61 (dk_at dksX5_endAllOf_1 19 rfl rfl)
theorem dX5_endAllOf_43 : decode cX5_endAllOf 43 = .ok (.iinc 3 1, 3) := dk_132 3 1 (dk_at dksX5_endAllOf_1 20 rfl rfl)
theorem dX5_endAllOf_46 : decode cX5_endAllOf 46 = .ok (.goto (-42), 3) := dk_167 255 214 (dk_at dksX5_endAllOf_2 0 rfl rfl)
theorem dX5_endAllOf_49 : decode cX5_endAllOf 49 = .ok (.iload_n 2, 1) := dk_28 (dk_at dksX5_endAllOf_2 3 rfl rfl)
theorem dX5_endAllOf_50 : decode cX5_endAllOf 50 = .ok (.ireturn, 1) := dk_172 (dk_at dksX5_endAllOf_2 4 rfl rfl)
abbrev cX5_link : ByteArray := prog_14_method_92_code
def yX5_link : MethodName := ⟨RX5, "link", "(II)I"⟩
def dkwX5_link_3 : List UInt8 := [54, 4, 42, 180, 0, 210, 27, 28, 79, 21, 4, 172]
abbrev dktX5_link_3 : List UInt8 := dkwX5_link_3 ++ []
def dkwX5_link_2 : List UInt8 := [46, 28, 160, 0, 7, 4, 167, 0, 4, 3, 182, 1, 18, 154, 0, 5, 3, 172, 42, 180, 0, 210, 27, 46]
abbrev dktX5_link_2 : List UInt8 := dkwX5_link_2 ++ dktX5_link_3
def dkwX5_link_1 : List UInt8 := [29, 153, 0, 32, 28, 2, 159, 0, 23, 42, 180, 0, 210, 27, 46, 2, 159, 0, 13, 42, 180, 0, 210, 27]
abbrev dktX5_link_1 : List UInt8 := dkwX5_link_1 ++ dktX5_link_2
def dkwX5_link_0 : List UInt8 := [27, 184, 1, 28, 153, 0, 16, 28, 2, 8, 184, 0, 228, 153, 0, 7, 4, 167, 0, 4, 3, 62, 42, 29]
abbrev dktX5_link_0 : List UInt8 := dkwX5_link_0 ++ dktX5_link_1
theorem dksX5_link_0 : cX5_link.data.toList.drop 0 = dktX5_link_0 := by decide +kernel
theorem dksX5_link_1 : cX5_link.data.toList.drop 24 = dktX5_link_1 := dk_seg dksX5_link_0 24 rfl rfl
theorem dksX5_link_2 : cX5_link.data.toList.drop 48 = dktX5_link_2 := dk_seg dksX5_link_1 24 rfl rfl
theorem dksX5_link_3 : cX5_link.data.toList.drop 72 = dktX5_link_3 := dk_seg dksX5_link_2 24 rfl rfl
theorem dX5_link_0 : decode cX5_link 0 = .ok (.iload_n 1, 1) := dk_27 (dk_at dksX5_link_0 0 rfl rfl)
theorem dX5_link_1 : decode cX5_link 1 = .ok (.invokestatic 284, 3) := dk_184 1 28 (dk_at dksX5_link_0 1 rfl rfl)
theorem dX5_link_4 : decode cX5_link 4 = .ok (.ifCond .eq 16, 3) := dk_153 0 16 (dk_at dksX5_link_0 4 rfl rfl)
theorem dX5_link_7 : decode cX5_link 7 = .ok (.iload_n 2, 1) := dk_28 (dk_at dksX5_link_0 7 rfl rfl)
theorem dX5_link_8 : decode cX5_link 8 = .ok (.iconst (-1), 1) := dk_2 (dk_at dksX5_link_0 8 rfl rfl)
theorem dX5_link_9 : decode cX5_link 9 = .ok (.iconst 5, 1) := dk_8 (dk_at dksX5_link_0 9 rfl rfl)
theorem dX5_link_10 : decode cX5_link 10 = .ok (.invokestatic 228, 3) := dk_184 0 228 (dk_at dksX5_link_0 10 rfl rfl)
theorem dX5_link_13 : decode cX5_link 13 = .ok (.ifCond .eq 7, 3) := dk_153 0 7 (dk_at dksX5_link_0 13 rfl rfl)
theorem dX5_link_16 : decode cX5_link 16 = .ok (.iconst 1, 1) := dk_4 (dk_at dksX5_link_0 16 rfl rfl)
theorem dX5_link_17 : decode cX5_link 17 = .ok (.goto 4, 3) := dk_167 0 4 (dk_at dksX5_link_0 17 rfl rfl)
theorem dX5_link_20 : decode cX5_link 20 = .ok (.iconst 0, 1) := dk_3 (dk_at dksX5_link_0 20 rfl rfl)
theorem dX5_link_21 : decode cX5_link 21 = .ok (.istore_n 3, 1) := dk_62 (dk_at dksX5_link_0 21 rfl rfl)
theorem dX5_link_22 : decode cX5_link 22 = .ok (.aload_n 0, 1) := dk_42 (dk_at dksX5_link_0 22 rfl rfl)
theorem dX5_link_23 : decode cX5_link 23 = .ok (.iload_n 3, 1) := dk_29 (dk_at dksX5_link_0 23 rfl rfl)
theorem dX5_link_24 : decode cX5_link 24 = .ok (.iload_n 3, 1) := dk_29 (dk_at dksX5_link_1 0 rfl rfl)
theorem dX5_link_25 : decode cX5_link 25 = .ok (.ifCond .eq 32, 3) := dk_153 0 32 (dk_at dksX5_link_1 1 rfl rfl)
theorem dX5_link_28 : decode cX5_link 28 = .ok (.iload_n 2, 1) := dk_28 (dk_at dksX5_link_1 4 rfl rfl)
theorem dX5_link_29 : decode cX5_link 29 = .ok (.iconst (-1), 1) := dk_2 (dk_at dksX5_link_1 5 rfl rfl)
theorem dX5_link_30 : decode cX5_link 30 = .ok (.if_icmp .eq 23, 3) := dk_159 0 23 (dk_at dksX5_link_1 6 rfl rfl)
theorem dX5_link_33 : decode cX5_link 33 = .ok (.aload_n 0, 1) := dk_42 (dk_at dksX5_link_1 9 rfl rfl)
theorem dX5_link_34 : decode cX5_link 34 = .ok (.getfield 210, 3) := dk_180 0 210 (dk_at dksX5_link_1 10 rfl rfl)
theorem dX5_link_37 : decode cX5_link 37 = .ok (.iload_n 1, 1) := dk_27 (dk_at dksX5_link_1 13 rfl rfl)
theorem dX5_link_38 : decode cX5_link 38 = .ok (.iaload, 1) := dk_46 (dk_at dksX5_link_1 14 rfl rfl)
theorem dX5_link_39 : decode cX5_link 39 = .ok (.iconst (-1), 1) := dk_2 (dk_at dksX5_link_1 15 rfl rfl)
theorem dX5_link_40 : decode cX5_link 40 = .ok (.if_icmp .eq 13, 3) := dk_159 0 13 (dk_at dksX5_link_1 16 rfl rfl)
theorem dX5_link_43 : decode cX5_link 43 = .ok (.aload_n 0, 1) := dk_42 (dk_at dksX5_link_1 19 rfl rfl)
theorem dX5_link_44 : decode cX5_link 44 = .ok (.getfield 210, 3) := dk_180 0 210 (dk_at dksX5_link_1 20 rfl rfl)
theorem dX5_link_47 : decode cX5_link 47 = .ok (.iload_n 1, 1) := dk_27 (dk_at dksX5_link_1 23 rfl rfl)
theorem dX5_link_48 : decode cX5_link 48 = .ok (.iaload, 1) := dk_46 (dk_at dksX5_link_2 0 rfl rfl)
theorem dX5_link_49 : decode cX5_link 49 = .ok (.iload_n 2, 1) := dk_28 (dk_at dksX5_link_2 1 rfl rfl)
theorem dX5_link_50 : decode cX5_link 50 = .ok (.if_icmp .ne 7, 3) := dk_160 0 7 (dk_at dksX5_link_2 2 rfl rfl)
theorem dX5_link_53 : decode cX5_link 53 = .ok (.iconst 1, 1) := dk_4 (dk_at dksX5_link_2 5 rfl rfl)
theorem dX5_link_54 : decode cX5_link 54 = .ok (.goto 4, 3) := dk_167 0 4 (dk_at dksX5_link_2 6 rfl rfl)
theorem dX5_link_57 : decode cX5_link 57 = .ok (.iconst 0, 1) := dk_3 (dk_at dksX5_link_2 9 rfl rfl)
theorem dX5_link_58 : decode cX5_link 58 = .ok (.invokevirtual 274, 3) := dk_182 1 18 (dk_at dksX5_link_2 10 rfl rfl)
theorem dX5_link_61 : decode cX5_link 61 = .ok (.ifCond .ne 5, 3) := dk_154 0 5 (dk_at dksX5_link_2 13 rfl rfl)
theorem dX5_link_64 : decode cX5_link 64 = .ok (.iconst 0, 1) := dk_3 (dk_at dksX5_link_2 16 rfl rfl)
theorem dX5_link_65 : decode cX5_link 65 = .ok (.ireturn, 1) := dk_172 (dk_at dksX5_link_2 17 rfl rfl)
theorem dX5_link_66 : decode cX5_link 66 = .ok (.aload_n 0, 1) := dk_42 (dk_at dksX5_link_2 18 rfl rfl)
theorem dX5_link_67 : decode cX5_link 67 = .ok (.getfield 210, 3) := dk_180 0 210 (dk_at dksX5_link_2 19 rfl rfl)
theorem dX5_link_70 : decode cX5_link 70 = .ok (.iload_n 1, 1) := dk_27 (dk_at dksX5_link_2 22 rfl rfl)
theorem dX5_link_71 : decode cX5_link 71 = .ok (.iaload, 1) := dk_46 (dk_at dksX5_link_2 23 rfl rfl)
theorem dX5_link_72 : decode cX5_link 72 = .ok (.istore 4, 2) := dk_54 4 (dk_at dksX5_link_3 0 rfl rfl)
theorem dX5_link_74 : decode cX5_link 74 = .ok (.aload_n 0, 1) := dk_42 (dk_at dksX5_link_3 2 rfl rfl)
theorem dX5_link_75 : decode cX5_link 75 = .ok (.getfield 210, 3) := dk_180 0 210 (dk_at dksX5_link_3 3 rfl rfl)
theorem dX5_link_78 : decode cX5_link 78 = .ok (.iload_n 1, 1) := dk_27 (dk_at dksX5_link_3 6 rfl rfl)
theorem dX5_link_79 : decode cX5_link 79 = .ok (.iload_n 2, 1) := dk_28 (dk_at dksX5_link_3 7 rfl rfl)
theorem dX5_link_80 : decode cX5_link 80 = .ok (.iastore, 1) := dk_79 (dk_at dksX5_link_3 8 rfl rfl)
theorem dX5_link_81 : decode cX5_link 81 = .ok (.iload 4, 2) := dk_21 4 (dk_at dksX5_link_3 9 rfl rfl)
theorem dX5_link_83 : decode cX5_link 83 = .ok (.ireturn, 1) := dk_172 (dk_at dksX5_link_3 11 rfl rfl)
abbrev cX5_foreign : ByteArray := prog_14_method_93_code
def yX5_foreign : MethodName := ⟨RX5, "foreign", "(I)I"⟩
def dkwX5_foreign_3 : List UInt8 := [3, 172]
abbrev dktX5_foreign_3 : List UInt8 := dkwX5_foreign_3 ++ []
def dkwX5_foreign_2 : List UInt8 := [167, 0, 4, 3, 182, 1, 18, 153, 0, 17, 42, 42, 180, 0, 210, 27, 46, 2, 182, 1, 72, 167, 0, 4]
abbrev dktX5_foreign_2 : List UInt8 := dkwX5_foreign_2 ++ dktX5_foreign_3
def dkwX5_foreign_1 : List UInt8 := [180, 0, 29, 42, 180, 0, 210, 27, 46, 51, 154, 0, 16, 42, 180, 0, 235, 16, 60, 162, 0, 7, 4]
abbrev dktX5_foreign_1 : List UInt8 := dkwX5_foreign_1 ++ dktX5_foreign_2
def dkwX5_foreign_0 : List UInt8 := [27, 184, 1, 28, 61, 42, 28, 28, 153, 0, 40, 42, 180, 0, 210, 27, 46, 2, 159, 0, 30, 42]
abbrev dktX5_foreign_0 : List UInt8 := dkwX5_foreign_0 ++ dktX5_foreign_1
theorem dksX5_foreign_0 : cX5_foreign.data.toList.drop 0 = dktX5_foreign_0 := by decide +kernel
theorem dksX5_foreign_1 : cX5_foreign.data.toList.drop 22 = dktX5_foreign_1 := dk_seg dksX5_foreign_0 22 rfl rfl
theorem dksX5_foreign_2 : cX5_foreign.data.toList.drop 45 = dktX5_foreign_2 := dk_seg dksX5_foreign_1 23 rfl rfl
theorem dksX5_foreign_3 : cX5_foreign.data.toList.drop 69 = dktX5_foreign_3 := dk_seg dksX5_foreign_2 24 rfl rfl
theorem dX5_foreign_0 : decode cX5_foreign 0 = .ok (.iload_n 1, 1) := dk_27 (dk_at dksX5_foreign_0 0 rfl rfl)
theorem dX5_foreign_1 : decode cX5_foreign 1 = .ok (.invokestatic 284, 3) := dk_184 1 28 (dk_at dksX5_foreign_0 1 rfl rfl)
theorem dX5_foreign_4 : decode cX5_foreign 4 = .ok (.istore_n 2, 1) := dk_61 (dk_at dksX5_foreign_0 4 rfl rfl)
theorem dX5_foreign_5 : decode cX5_foreign 5 = .ok (.aload_n 0, 1) := dk_42 (dk_at dksX5_foreign_0 5 rfl rfl)
theorem dX5_foreign_6 : decode cX5_foreign 6 = .ok (.iload_n 2, 1) := dk_28 (dk_at dksX5_foreign_0 6 rfl rfl)
theorem dX5_foreign_7 : decode cX5_foreign 7 = .ok (.iload_n 2, 1) := dk_28 (dk_at dksX5_foreign_0 7 rfl rfl)
theorem dX5_foreign_8 : decode cX5_foreign 8 = .ok (.ifCond .eq 40, 3) := dk_153 0 40 (dk_at dksX5_foreign_0 8 rfl rfl)
theorem dX5_foreign_11 : decode cX5_foreign 11 = .ok (.aload_n 0, 1) := dk_42 (dk_at dksX5_foreign_0 11 rfl rfl)
theorem dX5_foreign_12 : decode cX5_foreign 12 = .ok (.getfield 210, 3) := dk_180 0 210 (dk_at dksX5_foreign_0 12 rfl rfl)
theorem dX5_foreign_15 : decode cX5_foreign 15 = .ok (.iload_n 1, 1) := dk_27 (dk_at dksX5_foreign_0 15 rfl rfl)
theorem dX5_foreign_16 : decode cX5_foreign 16 = .ok (.iaload, 1) := dk_46 (dk_at dksX5_foreign_0 16 rfl rfl)
theorem dX5_foreign_17 : decode cX5_foreign 17 = .ok (.iconst (-1), 1) := dk_2 (dk_at dksX5_foreign_0 17 rfl rfl)
theorem dX5_foreign_18 : decode cX5_foreign 18 = .ok (.if_icmp .eq 30, 3) := dk_159 0 30 (dk_at dksX5_foreign_0 18 rfl rfl)
theorem dX5_foreign_21 : decode cX5_foreign 21 = .ok (.aload_n 0, 1) := dk_42 (dk_at dksX5_foreign_0 21 rfl rfl)
theorem dX5_foreign_22 : decode cX5_foreign 22 = .ok (.getfield 29, 3) := dk_180 0 29 (dk_at dksX5_foreign_1 0 rfl rfl)
theorem dX5_foreign_25 : decode cX5_foreign 25 = .ok (.aload_n 0, 1) := dk_42 (dk_at dksX5_foreign_1 3 rfl rfl)
theorem dX5_foreign_26 : decode cX5_foreign 26 = .ok (.getfield 210, 3) := dk_180 0 210 (dk_at dksX5_foreign_1 4 rfl rfl)
theorem dX5_foreign_29 : decode cX5_foreign 29 = .ok (.iload_n 1, 1) := dk_27 (dk_at dksX5_foreign_1 7 rfl rfl)
theorem dX5_foreign_30 : decode cX5_foreign 30 = .ok (.iaload, 1) := dk_46 (dk_at dksX5_foreign_1 8 rfl rfl)
theorem dX5_foreign_31 : decode cX5_foreign 31 = .ok (.baload, 1) := dk_51 (dk_at dksX5_foreign_1 9 rfl rfl)
theorem dX5_foreign_32 : decode cX5_foreign 32 = .ok (.ifCond .ne 16, 3) := dk_154 0 16 (dk_at dksX5_foreign_1 10 rfl rfl)
theorem dX5_foreign_35 : decode cX5_foreign 35 = .ok (.aload_n 0, 1) := dk_42 (dk_at dksX5_foreign_1 13 rfl rfl)
theorem dX5_foreign_36 : decode cX5_foreign 36 = .ok (.getfield 235, 3) := dk_180 0 235 (dk_at dksX5_foreign_1 14 rfl rfl)
theorem dX5_foreign_39 : decode cX5_foreign 39 = .ok (.bipush 60, 2) := dk_16 60 (dk_at dksX5_foreign_1 17 rfl rfl)
theorem dX5_foreign_41 : decode cX5_foreign 41 = .ok (.if_icmp .ge 7, 3) := dk_162 0 7 (dk_at dksX5_foreign_1 19 rfl rfl)
theorem dX5_foreign_44 : decode cX5_foreign 44 = .ok (.iconst 1, 1) := dk_4 (dk_at dksX5_foreign_1 22 rfl rfl)
theorem dX5_foreign_45 : decode cX5_foreign 45 = .ok (.goto 4, 3) := dk_167 0 4 (dk_at dksX5_foreign_2 0 rfl rfl)
theorem dX5_foreign_48 : decode cX5_foreign 48 = .ok (.iconst 0, 1) := dk_3 (dk_at dksX5_foreign_2 3 rfl rfl)
theorem dX5_foreign_49 : decode cX5_foreign 49 = .ok (.invokevirtual 274, 3) := dk_182 1 18 (dk_at dksX5_foreign_2 4 rfl rfl)
theorem dX5_foreign_52 : decode cX5_foreign 52 = .ok (.ifCond .eq 17, 3) := dk_153 0 17 (dk_at dksX5_foreign_2 7 rfl rfl)
theorem dX5_foreign_55 : decode cX5_foreign 55 = .ok (.aload_n 0, 1) := dk_42 (dk_at dksX5_foreign_2 10 rfl rfl)
theorem dX5_foreign_56 : decode cX5_foreign 56 = .ok (.aload_n 0, 1) := dk_42 (dk_at dksX5_foreign_2 11 rfl rfl)
theorem dX5_foreign_57 : decode cX5_foreign 57 = .ok (.getfield 210, 3) := dk_180 0 210 (dk_at dksX5_foreign_2 12 rfl rfl)
theorem dX5_foreign_60 : decode cX5_foreign 60 = .ok (.iload_n 1, 1) := dk_27 (dk_at dksX5_foreign_2 15 rfl rfl)
theorem dX5_foreign_61 : decode cX5_foreign 61 = .ok (.iaload, 1) := dk_46 (dk_at dksX5_foreign_2 16 rfl rfl)
theorem dX5_foreign_62 : decode cX5_foreign 62 = .ok (.iconst (-1), 1) := dk_2 (dk_at dksX5_foreign_2 17 rfl rfl)
theorem dX5_foreign_63 : decode cX5_foreign 63 = .ok (.invokevirtual 328, 3) := dk_182 1 72 (dk_at dksX5_foreign_2 18 rfl rfl)
theorem dX5_foreign_66 : decode cX5_foreign 66 = .ok (.goto 4, 3) := dk_167 0 4 (dk_at dksX5_foreign_2 21 rfl rfl)
theorem dX5_foreign_69 : decode cX5_foreign 69 = .ok (.iconst 0, 1) := dk_3 (dk_at dksX5_foreign_3 0 rfl rfl)
theorem dX5_foreign_70 : decode cX5_foreign 70 = .ok (.ireturn, 1) := dk_172 (dk_at dksX5_foreign_3 1 rfl rfl)
abbrev cX5_leave : ByteArray := prog_14_method_94_code
def yX5_leave : MethodName := ⟨RX5, "leave", "(I)I"⟩
def dkwX5_leave_6 : List UInt8 := [132, 3, 1, 167, 255, 215, 28, 172]
abbrev dktX5_leave_6 : List UInt8 := dkwX5_leave_6 ++ []
def dkwX5_leave_5 : List UInt8 := [180, 0, 201, 29, 51, 153, 0, 17, 42, 180, 0, 195, 29, 46, 27, 159, 0, 7, 4, 167, 0, 4, 3, 84]
abbrev dktX5_leave_5 : List UInt8 := dkwX5_leave_5 ++ dktX5_leave_6
def dkwX5_leave_4 : List UInt8 := [79, 132, 3, 1, 167, 255, 210, 3, 62, 29, 42, 180, 1, 124, 162, 0, 39, 42, 180, 0, 201, 29, 42]
abbrev dktX5_leave_4 : List UInt8 := dkwX5_leave_4 ++ dktX5_leave_5
def dkwX5_leave_3 : List UInt8 := [46, 27, 160, 0, 16, 42, 180, 0, 77, 29, 46, 154, 0, 7, 5, 167, 0, 9, 42, 180, 0, 77, 29, 46]
abbrev dktX5_leave_3 : List UInt8 := dkwX5_leave_3 ++ dktX5_leave_4
def dkwX5_leave_2 : List UInt8 := [182, 1, 139, 61, 3, 62, 29, 42, 180, 0, 232, 162, 0, 44, 42, 180, 0, 77, 29, 42, 180, 0, 62, 29]
abbrev dktX5_leave_2 : List UInt8 := dkwX5_leave_2 ++ dktX5_leave_3
def dkwX5_leave_1 : List UInt8 := [154, 0, 7, 4, 167, 0, 4, 3, 84, 42, 180, 0, 29, 27, 51, 154, 0, 5, 2, 172, 42, 27]
abbrev dktX5_leave_1 : List UInt8 := dkwX5_leave_1 ++ dktX5_leave_2
def dkwX5_leave_0 : List UInt8 := [42, 27, 184, 1, 28, 182, 0, 251, 154, 0, 5, 3, 172, 42, 180, 0, 29, 27, 42, 180, 0, 29, 27, 51]
abbrev dktX5_leave_0 : List UInt8 := dkwX5_leave_0 ++ dktX5_leave_1
theorem dksX5_leave_0 : cX5_leave.data.toList.drop 0 = dktX5_leave_0 := by decide +kernel
theorem dksX5_leave_1 : cX5_leave.data.toList.drop 24 = dktX5_leave_1 := dk_seg dksX5_leave_0 24 rfl rfl
theorem dksX5_leave_2 : cX5_leave.data.toList.drop 46 = dktX5_leave_2 := dk_seg dksX5_leave_1 22 rfl rfl
theorem dksX5_leave_3 : cX5_leave.data.toList.drop 70 = dktX5_leave_3 := dk_seg dksX5_leave_2 24 rfl rfl
theorem dksX5_leave_4 : cX5_leave.data.toList.drop 94 = dktX5_leave_4 := dk_seg dksX5_leave_3 24 rfl rfl
theorem dksX5_leave_5 : cX5_leave.data.toList.drop 117 = dktX5_leave_5 := dk_seg dksX5_leave_4 23 rfl rfl
theorem dksX5_leave_6 : cX5_leave.data.toList.drop 141 = dktX5_leave_6 := dk_seg dksX5_leave_5 24 rfl rfl
theorem dX5_leave_0 : decode cX5_leave 0 = .ok (.aload_n 0, 1) := dk_42 (dk_at dksX5_leave_0 0 rfl rfl)
theorem dX5_leave_1 : decode cX5_leave 1 = .ok (.iload_n 1, 1) := dk_27 (dk_at dksX5_leave_0 1 rfl rfl)
theorem dX5_leave_2 : decode cX5_leave 2 = .ok (.invokestatic 284, 3) := dk_184 1 28 (dk_at dksX5_leave_0 2 rfl rfl)
theorem dX5_leave_5 : decode cX5_leave 5 = .ok (.invokevirtual 251, 3) := dk_182 0 251 (dk_at dksX5_leave_0 5 rfl rfl)
theorem dX5_leave_8 : decode cX5_leave 8 = .ok (.ifCond .ne 5, 3) := dk_154 0 5 (dk_at dksX5_leave_0 8 rfl rfl)
theorem dX5_leave_11 : decode cX5_leave 11 = .ok (.iconst 0, 1) := dk_3 (dk_at dksX5_leave_0 11 rfl rfl)
theorem dX5_leave_12 : decode cX5_leave 12 = .ok (.ireturn, 1) := dk_172 (dk_at dksX5_leave_0 12 rfl rfl)
theorem dX5_leave_13 : decode cX5_leave 13 = .ok (.aload_n 0, 1) := dk_42 (dk_at dksX5_leave_0 13 rfl rfl)
theorem dX5_leave_14 : decode cX5_leave 14 = .ok (.getfield 29, 3) := dk_180 0 29 (dk_at dksX5_leave_0 14 rfl rfl)
theorem dX5_leave_17 : decode cX5_leave 17 = .ok (.iload_n 1, 1) := dk_27 (dk_at dksX5_leave_0 17 rfl rfl)
theorem dX5_leave_18 : decode cX5_leave 18 = .ok (.aload_n 0, 1) := dk_42 (dk_at dksX5_leave_0 18 rfl rfl)
theorem dX5_leave_19 : decode cX5_leave 19 = .ok (.getfield 29, 3) := dk_180 0 29 (dk_at dksX5_leave_0 19 rfl rfl)
theorem dX5_leave_22 : decode cX5_leave 22 = .ok (.iload_n 1, 1) := dk_27 (dk_at dksX5_leave_0 22 rfl rfl)
theorem dX5_leave_23 : decode cX5_leave 23 = .ok (.baload, 1) := dk_51 (dk_at dksX5_leave_0 23 rfl rfl)
theorem dX5_leave_24 : decode cX5_leave 24 = .ok (.ifCond .ne 7, 3) := dk_154 0 7 (dk_at dksX5_leave_1 0 rfl rfl)
theorem dX5_leave_27 : decode cX5_leave 27 = .ok (.iconst 1, 1) := dk_4 (dk_at dksX5_leave_1 3 rfl rfl)
theorem dX5_leave_28 : decode cX5_leave 28 = .ok (.goto 4, 3) := dk_167 0 4 (dk_at dksX5_leave_1 4 rfl rfl)
theorem dX5_leave_31 : decode cX5_leave 31 = .ok (.iconst 0, 1) := dk_3 (dk_at dksX5_leave_1 7 rfl rfl)
theorem dX5_leave_32 : decode cX5_leave 32 = .ok (.bastore, 1) := dk_84 (dk_at dksX5_leave_1 8 rfl rfl)
theorem dX5_leave_33 : decode cX5_leave 33 = .ok (.aload_n 0, 1) := dk_42 (dk_at dksX5_leave_1 9 rfl rfl)
theorem dX5_leave_34 : decode cX5_leave 34 = .ok (.getfield 29, 3) := dk_180 0 29 (dk_at dksX5_leave_1 10 rfl rfl)
theorem dX5_leave_37 : decode cX5_leave 37 = .ok (.iload_n 1, 1) := dk_27 (dk_at dksX5_leave_1 13 rfl rfl)
theorem dX5_leave_38 : decode cX5_leave 38 = .ok (.baload, 1) := dk_51 (dk_at dksX5_leave_1 14 rfl rfl)
theorem dX5_leave_39 : decode cX5_leave 39 = .ok (.ifCond .ne 5, 3) := dk_154 0 5 (dk_at dksX5_leave_1 15 rfl rfl)
theorem dX5_leave_42 : decode cX5_leave 42 = .ok (.iconst (-1), 1) := dk_2 (dk_at dksX5_leave_1 18 rfl rfl)
theorem dX5_leave_43 : decode cX5_leave 43 = .ok (.ireturn, 1) := dk_172 (dk_at dksX5_leave_1 19 rfl rfl)
theorem dX5_leave_44 : decode cX5_leave 44 = .ok (.aload_n 0, 1) := dk_42 (dk_at dksX5_leave_1 20 rfl rfl)
theorem dX5_leave_45 : decode cX5_leave 45 = .ok (.iload_n 1, 1) := dk_27 (dk_at dksX5_leave_1 21 rfl rfl)
theorem dX5_leave_46 : decode cX5_leave 46 = .ok (.invokevirtual 395, 3) := dk_182 1 139 (dk_at dksX5_leave_2 0 rfl rfl)
theorem dX5_leave_49 : decode cX5_leave 49 = .ok (.istore_n 2, 1) := dk_61 (dk_at dksX5_leave_2 3 rfl rfl)
theorem dX5_leave_50 : decode cX5_leave 50 = .ok (.iconst 0, 1) := dk_3 (dk_at dksX5_leave_2 4 rfl rfl)
theorem dX5_leave_51 : decode cX5_leave 51 = .ok (.istore_n 3, 1) := dk_62 (dk_at dksX5_leave_2 5 rfl rfl)
theorem dX5_leave_52 : decode cX5_leave 52 = .ok (.iload_n 3, 1) := dk_29 (dk_at dksX5_leave_2 6 rfl rfl)
theorem dX5_leave_53 : decode cX5_leave 53 = .ok (.aload_n 0, 1) := dk_42 (dk_at dksX5_leave_2 7 rfl rfl)
theorem dX5_leave_54 : decode cX5_leave 54 = .ok (.getfield 232, 3) := dk_180 0 232 (dk_at dksX5_leave_2 8 rfl rfl)
theorem dX5_leave_57 : decode cX5_leave 57 = .ok (.if_icmp .ge 44, 3) := dk_162 0 44 (dk_at dksX5_leave_2 11 rfl rfl)
theorem dX5_leave_60 : decode cX5_leave 60 = .ok (.aload_n 0, 1) := dk_42 (dk_at dksX5_leave_2 14 rfl rfl)
theorem dX5_leave_61 : decode cX5_leave 61 = .ok (.getfield 77, 3) := dk_180 0 77 (dk_at dksX5_leave_2 15 rfl rfl)
theorem dX5_leave_64 : decode cX5_leave 64 = .ok (.iload_n 3, 1) := dk_29 (dk_at dksX5_leave_2 18 rfl rfl)
theorem dX5_leave_65 : decode cX5_leave 65 = .ok (.aload_n 0, 1) := dk_42 (dk_at dksX5_leave_2 19 rfl rfl)
theorem dX5_leave_66 : decode cX5_leave 66 = .ok (.getfield 62, 3) := dk_180 0 62 (dk_at dksX5_leave_2 20 rfl rfl)
theorem dX5_leave_69 : decode cX5_leave 69 = .ok (.iload_n 3, 1) := dk_29 (dk_at dksX5_leave_2 23 rfl rfl)
theorem dX5_leave_70 : decode cX5_leave 70 = .ok (.iaload, 1) := dk_46 (dk_at dksX5_leave_3 0 rfl rfl)
theorem dX5_leave_71 : decode cX5_leave 71 = .ok (.iload_n 1, 1) := dk_27 (dk_at dksX5_leave_3 1 rfl rfl)
theorem dX5_leave_72 : decode cX5_leave 72 = .ok (.if_icmp .ne 16, 3) := dk_160 0 16 (dk_at dksX5_leave_3 2 rfl rfl)
theorem dX5_leave_75 : decode cX5_leave 75 = .ok (.aload_n 0, 1) := dk_42 (dk_at dksX5_leave_3 5 rfl rfl)
theorem dX5_leave_76 : decode cX5_leave 76 = .ok (.getfield 77, 3) := dk_180 0 77 (dk_at dksX5_leave_3 6 rfl rfl)
theorem dX5_leave_79 : decode cX5_leave 79 = .ok (.iload_n 3, 1) := dk_29 (dk_at dksX5_leave_3 9 rfl rfl)
theorem dX5_leave_80 : decode cX5_leave 80 = .ok (.iaload, 1) := dk_46 (dk_at dksX5_leave_3 10 rfl rfl)
theorem dX5_leave_81 : decode cX5_leave 81 = .ok (.ifCond .ne 7, 3) := dk_154 0 7 (dk_at dksX5_leave_3 11 rfl rfl)
theorem dX5_leave_84 : decode cX5_leave 84 = .ok (.iconst 2, 1) := dk_5 (dk_at dksX5_leave_3 14 rfl rfl)
theorem dX5_leave_85 : decode cX5_leave 85 = .ok (.goto 9, 3) := dk_167 0 9 (dk_at dksX5_leave_3 15 rfl rfl)
theorem dX5_leave_88 : decode cX5_leave 88 = .ok (.aload_n 0, 1) := dk_42 (dk_at dksX5_leave_3 18 rfl rfl)
theorem dX5_leave_89 : decode cX5_leave 89 = .ok (.getfield 77, 3) := dk_180 0 77 (dk_at dksX5_leave_3 19 rfl rfl)
theorem dX5_leave_92 : decode cX5_leave 92 = .ok (.iload_n 3, 1) := dk_29 (dk_at dksX5_leave_3 22 rfl rfl)
theorem dX5_leave_93 : decode cX5_leave 93 = .ok (.iaload, 1) := dk_46 (dk_at dksX5_leave_3 23 rfl rfl)
theorem dX5_leave_94 : decode cX5_leave 94 = .ok (.iastore, 1) := dk_79 (dk_at dksX5_leave_4 0 rfl rfl)
theorem dX5_leave_95 : decode cX5_leave 95 = .ok (.iinc 3 1, 3) := dk_132 3 1 (dk_at dksX5_leave_4 1 rfl rfl)
theorem dX5_leave_98 : decode cX5_leave 98 = .ok (.goto (-46), 3) := dk_167 255 210 (dk_at dksX5_leave_4 4 rfl rfl)
theorem dX5_leave_101 : decode cX5_leave 101 = .ok (.iconst 0, 1) := dk_3 (dk_at dksX5_leave_4 7 rfl rfl)
theorem dX5_leave_102 : decode cX5_leave 102 = .ok (.istore_n 3, 1) := dk_62 (dk_at dksX5_leave_4 8 rfl rfl)
theorem dX5_leave_103 : decode cX5_leave 103 = .ok (.iload_n 3, 1) := dk_29 (dk_at dksX5_leave_4 9 rfl rfl)
theorem dX5_leave_104 : decode cX5_leave 104 = .ok (.aload_n 0, 1) := dk_42 (dk_at dksX5_leave_4 10 rfl rfl)
theorem dX5_leave_105 : decode cX5_leave 105 = .ok (.getfield 380, 3) := dk_180 1 124 (dk_at dksX5_leave_4 11 rfl rfl)
theorem dX5_leave_108 : decode cX5_leave 108 = .ok (.if_icmp .ge 39, 3) := dk_162 0 39 (dk_at dksX5_leave_4 14 rfl rfl)
theorem dX5_leave_111 : decode cX5_leave 111 = .ok (.aload_n 0, 1) := dk_42 (dk_at dksX5_leave_4 17 rfl rfl)
theorem dX5_leave_112 : decode cX5_leave 112 = .ok (.getfield 201, 3) := dk_180 0 201 (dk_at dksX5_leave_4 18 rfl rfl)
theorem dX5_leave_115 : decode cX5_leave 115 = .ok (.iload_n 3, 1) := dk_29 (dk_at dksX5_leave_4 21 rfl rfl)
theorem dX5_leave_116 : decode cX5_leave 116 = .ok (.aload_n 0, 1) := dk_42 (dk_at dksX5_leave_4 22 rfl rfl)
theorem dX5_leave_117 : decode cX5_leave 117 = .ok (.getfield 201, 3) := dk_180 0 201 (dk_at dksX5_leave_5 0 rfl rfl)
theorem dX5_leave_120 : decode cX5_leave 120 = .ok (.iload_n 3, 1) := dk_29 (dk_at dksX5_leave_5 3 rfl rfl)
theorem dX5_leave_121 : decode cX5_leave 121 = .ok (.baload, 1) := dk_51 (dk_at dksX5_leave_5 4 rfl rfl)
theorem dX5_leave_122 : decode cX5_leave 122 = .ok (.ifCond .eq 17, 3) := dk_153 0 17 (dk_at dksX5_leave_5 5 rfl rfl)
theorem dX5_leave_125 : decode cX5_leave 125 = .ok (.aload_n 0, 1) := dk_42 (dk_at dksX5_leave_5 8 rfl rfl)
theorem dX5_leave_126 : decode cX5_leave 126 = .ok (.getfield 195, 3) := dk_180 0 195 (dk_at dksX5_leave_5 9 rfl rfl)
theorem dX5_leave_129 : decode cX5_leave 129 = .ok (.iload_n 3, 1) := dk_29 (dk_at dksX5_leave_5 12 rfl rfl)
theorem dX5_leave_130 : decode cX5_leave 130 = .ok (.iaload, 1) := dk_46 (dk_at dksX5_leave_5 13 rfl rfl)
theorem dX5_leave_131 : decode cX5_leave 131 = .ok (.iload_n 1, 1) := dk_27 (dk_at dksX5_leave_5 14 rfl rfl)
theorem dX5_leave_132 : decode cX5_leave 132 = .ok (.if_icmp .eq 7, 3) := dk_159 0 7 (dk_at dksX5_leave_5 15 rfl rfl)
theorem dX5_leave_135 : decode cX5_leave 135 = .ok (.iconst 1, 1) := dk_4 (dk_at dksX5_leave_5 18 rfl rfl)
theorem dX5_leave_136 : decode cX5_leave 136 = .ok (.goto 4, 3) := dk_167 0 4 (dk_at dksX5_leave_5 19 rfl rfl)
theorem dX5_leave_139 : decode cX5_leave 139 = .ok (.iconst 0, 1) := dk_3 (dk_at dksX5_leave_5 22 rfl rfl)
theorem dX5_leave_140 : decode cX5_leave 140 = .ok (.bastore, 1) := dk_84 (dk_at dksX5_leave_5 23 rfl rfl)
theorem dX5_leave_141 : decode cX5_leave 141 = .ok (.iinc 3 1, 3) := dk_132 3 1 (dk_at dksX5_leave_6 0 rfl rfl)
theorem dX5_leave_144 : decode cX5_leave 144 = .ok (.goto (-41), 3) := dk_167 255 215 (dk_at dksX5_leave_6 3 rfl rfl)
theorem dX5_leave_147 : decode cX5_leave 147 = .ok (.iload_n 2, 1) := dk_28 (dk_at dksX5_leave_6 6 rfl rfl)
theorem dX5_leave_148 : decode cX5_leave 148 = .ok (.ireturn, 1) := dk_172 (dk_at dksX5_leave_6 7 rfl rfl)
theorem q98 : (Jvm.Cond.initialized "KeyringCourtModel") ∈ lw_all := lw_g (lw_at lw_m1 28 rfl) rfl
theorem q909 : (Jvm.Cond.selects "KeyringCourtModel" ({ cls := "java/lang/Object", name := "getClass", desc := "()Ljava/lang/Class;" } : Jvm.MethodName) ({ cls := "java/lang/Object", name := "getClass", desc := "()Ljava/lang/Class;" } : Jvm.MethodName)) ∈ lw_all := lw_g (lw_at lw_m4 119 rfl) rfl
theorem q2411 : (Jvm.Cond.instantiable "KeyringCourtModel" (83 : Nat)) ∈ lw_all := lw_g (lw_at lw_m10 181 rfl) rfl
theorem q2413 : (Jvm.Cond.instanceMethod ({ cls := "KeyringCourtModel", name := "<init>", desc := "()V" } : Jvm.MethodName)) ∈ lw_all := lw_g (lw_at lw_m10 183 rfl) rfl
theorem q2414 : (Jvm.Cond.code ({ cls := "KeyringCourtModel", name := "<init>", desc := "()V" } : Jvm.MethodName) prog_14_method_1_code (2 : Nat) (Option.none : Option Jvm.ClassFile.FieldType)) ∈ lw_all := lw_g (lw_at lw_m10 184 rfl) rfl
theorem q2415 : (Jvm.Cond.methodLink "KeyringCourtModel" (1 : Nat) ({ cls := "java/lang/Object", name := "<init>", desc := "()V" } : Jvm.MethodName)) ∈ lw_all := lw_g (lw_at lw_m10 185 rfl) rfl
theorem q2416 : (Jvm.Cond.fieldLink "KeyringCourtModel" (247 : Nat) "KeyringCourtModel" "clock" "I") ∈ lw_all := lw_g (lw_at lw_m10 186 rfl) rfl
theorem q2417 : (Jvm.Cond.fieldLink "KeyringCourtModel" (7 : Nat) "KeyringCourtModel" "factors" "[I") ∈ lw_all := lw_g (lw_at lw_m10 187 rfl) rfl
theorem q2418 : (Jvm.Cond.fieldLink "KeyringCourtModel" (13 : Nat) "KeyringCourtModel" "inRow" "[I") ∈ lw_all := lw_g (lw_at lw_m10 188 rfl) rfl
theorem q2419 : (Jvm.Cond.fieldLink "KeyringCourtModel" (16 : Nat) "KeyringCourtModel" "counter" "[I") ∈ lw_all := lw_g (lw_at lw_m10 189 rfl) rfl
theorem q2420 : (Jvm.Cond.fieldLink "KeyringCourtModel" (19 : Nat) "KeyringCourtModel" "wrongAt" "[I") ∈ lw_all := lw_g (lw_at lw_m10 190 rfl) rfl
theorem q2421 : (Jvm.Cond.fieldLink "KeyringCourtModel" (22 : Nat) "KeyringCourtModel" "knowsDevice" "[Z") ∈ lw_all := lw_g (lw_at lw_m10 191 rfl) rfl
theorem q2422 : (Jvm.Cond.fieldLink "KeyringCourtModel" (26 : Nat) "KeyringCourtModel" "knowsPlace" "[Z") ∈ lw_all := lw_g (lw_at lw_m10 192 rfl) rfl
theorem q2423 : (Jvm.Cond.fieldLink "KeyringCourtModel" (29 : Nat) "KeyringCourtModel" "isAway" "[Z") ∈ lw_all := lw_g (lw_at lw_m10 193 rfl) rfl
theorem q2424 : (Jvm.Cond.fieldLink "KeyringCourtModel" (32 : Nat) "KeyringCourtModel" "isHelper" "[Z") ∈ lw_all := lw_g (lw_at lw_m10 194 rfl) rfl
theorem q2425 : (Jvm.Cond.fieldLink "KeyringCourtModel" (303 : Nat) "KeyringCourtModel" "versions" "I") ∈ lw_all := lw_g (lw_at lw_m10 195 rfl) rfl
theorem q2426 : (Jvm.Cond.fieldLink "KeyringCourtModel" (35 : Nat) "KeyringCourtModel" "steps" "[I") ∈ lw_all := lw_g (lw_at lw_m10 196 rfl) rfl
theorem q2427 : (Jvm.Cond.fieldLink "KeyringCourtModel" (38 : Nat) "KeyringCourtModel" "stepKind" "[I") ∈ lw_all := lw_g (lw_at lw_m10 197 rfl) rfl
theorem q2428 : (Jvm.Cond.fieldLink "KeyringCourtModel" (41 : Nat) "KeyringCourtModel" "stepA" "[I") ∈ lw_all := lw_g (lw_at lw_m10 198 rfl) rfl
theorem q2429 : (Jvm.Cond.fieldLink "KeyringCourtModel" (44 : Nat) "KeyringCourtModel" "stepB" "[I") ∈ lw_all := lw_g (lw_at lw_m10 199 rfl) rfl
theorem q2430 : (Jvm.Cond.fieldLink "KeyringCourtModel" (47 : Nat) "KeyringCourtModel" "stepYes" "[I") ∈ lw_all := lw_g (lw_at lw_m10 200 rfl) rfl
theorem q2431 : (Jvm.Cond.fieldLink "KeyringCourtModel" (50 : Nat) "KeyringCourtModel" "stepNo" "[I") ∈ lw_all := lw_g (lw_at lw_m10 201 rfl) rfl
theorem q2432 : (Jvm.Cond.fieldLink "KeyringCourtModel" (53 : Nat) "KeyringCourtModel" "met" "[Z") ∈ lw_all := lw_g (lw_at lw_m10 202 rfl) rfl
theorem q2433 : (Jvm.Cond.fieldLink "KeyringCourtModel" (56 : Nat) "KeyringCourtModel" "points" "[I") ∈ lw_all := lw_g (lw_at lw_m10 203 rfl) rfl
theorem q2434 : (Jvm.Cond.fieldLink "KeyringCourtModel" (59 : Nat) "KeyringCourtModel" "trial" "[I") ∈ lw_all := lw_g (lw_at lw_m10 204 rfl) rfl
theorem q2435 : (Jvm.Cond.fieldLink "KeyringCourtModel" (232 : Nat) "KeyringCourtModel" "attempts" "I") ∈ lw_all := lw_g (lw_at lw_m10 205 rfl) rfl
theorem q2436 : (Jvm.Cond.fieldLink "KeyringCourtModel" (62 : Nat) "KeyringCourtModel" "aPerson" "[I") ∈ lw_all := lw_g (lw_at lw_m10 206 rfl) rfl
theorem q2437 : (Jvm.Cond.fieldLink "KeyringCourtModel" (65 : Nat) "KeyringCourtModel" "aDevice" "[I") ∈ lw_all := lw_g (lw_at lw_m10 207 rfl) rfl
theorem q2438 : (Jvm.Cond.fieldLink "KeyringCourtModel" (68 : Nat) "KeyringCourtModel" "aPlace" "[I") ∈ lw_all := lw_g (lw_at lw_m10 208 rfl) rfl
theorem q2439 : (Jvm.Cond.fieldLink "KeyringCourtModel" (71 : Nat) "KeyringCourtModel" "aVersion" "[I") ∈ lw_all := lw_g (lw_at lw_m10 209 rfl) rfl
theorem q2440 : (Jvm.Cond.fieldLink "KeyringCourtModel" (74 : Nat) "KeyringCourtModel" "aStep" "[I") ∈ lw_all := lw_g (lw_at lw_m10 210 rfl) rfl
theorem q2441 : (Jvm.Cond.fieldLink "KeyringCourtModel" (77 : Nat) "KeyringCourtModel" "aState" "[I") ∈ lw_all := lw_g (lw_at lw_m10 211 rfl) rfl
theorem q2442 : (Jvm.Cond.fieldLink "KeyringCourtModel" (80 : Nat) "KeyringCourtModel" "aWrong" "[I") ∈ lw_all := lw_g (lw_at lw_m10 212 rfl) rfl
theorem q2443 : (Jvm.Cond.fieldLink "KeyringCourtModel" (83 : Nat) "KeyringCourtModel" "aAnswers" "[I") ∈ lw_all := lw_g (lw_at lw_m10 213 rfl) rfl
theorem q2444 : (Jvm.Cond.fieldLink "KeyringCourtModel" (86 : Nat) "KeyringCourtModel" "aSession" "[I") ∈ lw_all := lw_g (lw_at lw_m10 214 rfl) rfl
theorem q2445 : (Jvm.Cond.fieldLink "KeyringCourtModel" (89 : Nat) "KeyringCourtModel" "aShown" "[I") ∈ lw_all := lw_g (lw_at lw_m10 215 rfl) rfl
theorem q2446 : (Jvm.Cond.fieldLink "KeyringCourtModel" (235 : Nat) "KeyringCourtModel" "sessions" "I") ∈ lw_all := lw_g (lw_at lw_m10 216 rfl) rfl
theorem q2447 : (Jvm.Cond.fieldLink "KeyringCourtModel" (92 : Nat) "KeyringCourtModel" "sPerson" "[I") ∈ lw_all := lw_g (lw_at lw_m10 217 rfl) rfl
theorem q2448 : (Jvm.Cond.fieldLink "KeyringCourtModel" (95 : Nat) "KeyringCourtModel" "sBegan" "[I") ∈ lw_all := lw_g (lw_at lw_m10 218 rfl) rfl
theorem q2449 : (Jvm.Cond.fieldLink "KeyringCourtModel" (98 : Nat) "KeyringCourtModel" "sUsed" "[I") ∈ lw_all := lw_g (lw_at lw_m10 219 rfl) rfl
theorem q2450 : (Jvm.Cond.fieldLink "KeyringCourtModel" (101 : Nat) "KeyringCourtModel" "sOwner" "[I") ∈ lw_all := lw_g (lw_at lw_m10 220 rfl) rfl
theorem q2451 : (Jvm.Cond.fieldLink "KeyringCourtModel" (104 : Nat) "KeyringCourtModel" "sLive" "[Z") ∈ lw_all := lw_g (lw_at lw_m10 221 rfl) rfl
theorem q2452 : (Jvm.Cond.fieldLink "KeyringCourtModel" (107 : Nat) "KeyringCourtModel" "sShown" "[I") ∈ lw_all := lw_g (lw_at lw_m10 222 rfl) rfl
theorem q2453 : (Jvm.Cond.fieldLink "KeyringCourtModel" (110 : Nat) "KeyringCourtModel" "consents" "[I") ∈ lw_all := lw_g (lw_at lw_m10 223 rfl) rfl
theorem q2454 : (Jvm.Cond.fieldLink "KeyringCourtModel" (113 : Nat) "KeyringCourtModel" "needs" "[I") ∈ lw_all := lw_g (lw_at lw_m10 224 rfl) rfl
theorem q2455 : (Jvm.Cond.fieldLink "KeyringCourtModel" (361 : Nat) "KeyringCourtModel" "codes" "I") ∈ lw_all := lw_g (lw_at lw_m10 225 rfl) rfl
theorem q2456 : (Jvm.Cond.fieldLink "KeyringCourtModel" (116 : Nat) "KeyringCourtModel" "cSession" "[I") ∈ lw_all := lw_g (lw_at lw_m10 226 rfl) rfl
theorem q2457 : (Jvm.Cond.fieldLink "KeyringCourtModel" (119 : Nat) "KeyringCourtModel" "cClient" "[I") ∈ lw_all := lw_g (lw_at lw_m10 227 rfl) rfl
theorem q2458 : (Jvm.Cond.fieldLink "KeyringCourtModel" (122 : Nat) "KeyringCourtModel" "cAudience" "[I") ∈ lw_all := lw_g (lw_at lw_m10 228 rfl) rfl
theorem q2459 : (Jvm.Cond.fieldLink "KeyringCourtModel" (125 : Nat) "KeyringCourtModel" "cScopes" "[I") ∈ lw_all := lw_g (lw_at lw_m10 229 rfl) rfl
theorem q2460 : (Jvm.Cond.fieldLink "KeyringCourtModel" (128 : Nat) "KeyringCourtModel" "cMade" "[I") ∈ lw_all := lw_g (lw_at lw_m10 230 rfl) rfl
theorem q2461 : (Jvm.Cond.fieldLink "KeyringCourtModel" (131 : Nat) "KeyringCourtModel" "cFamily" "[I") ∈ lw_all := lw_g (lw_at lw_m10 231 rfl) rfl
theorem q2462 : (Jvm.Cond.fieldLink "KeyringCourtModel" (238 : Nat) "KeyringCourtModel" "families" "I") ∈ lw_all := lw_g (lw_at lw_m10 232 rfl) rfl
theorem q2463 : (Jvm.Cond.fieldLink "KeyringCourtModel" (134 : Nat) "KeyringCourtModel" "fCode" "[I") ∈ lw_all := lw_g (lw_at lw_m10 233 rfl) rfl
theorem q2464 : (Jvm.Cond.fieldLink "KeyringCourtModel" (137 : Nat) "KeyringCourtModel" "fNumber" "[I") ∈ lw_all := lw_g (lw_at lw_m10 234 rfl) rfl
theorem q2465 : (Jvm.Cond.fieldLink "KeyringCourtModel" (140 : Nat) "KeyringCourtModel" "fMinute" "[I") ∈ lw_all := lw_g (lw_at lw_m10 235 rfl) rfl
theorem q2466 : (Jvm.Cond.fieldLink "KeyringCourtModel" (143 : Nat) "KeyringCourtModel" "fToken" "[I") ∈ lw_all := lw_g (lw_at lw_m10 236 rfl) rfl
theorem q2467 : (Jvm.Cond.fieldLink "KeyringCourtModel" (146 : Nat) "KeyringCourtModel" "fGood" "[Z") ∈ lw_all := lw_g (lw_at lw_m10 237 rfl) rfl
theorem q2468 : (Jvm.Cond.fieldLink "KeyringCourtModel" (241 : Nat) "KeyringCourtModel" "tokens" "I") ∈ lw_all := lw_g (lw_at lw_m10 238 rfl) rfl
theorem q2469 : (Jvm.Cond.fieldLink "KeyringCourtModel" (149 : Nat) "KeyringCourtModel" "tClient" "[I") ∈ lw_all := lw_g (lw_at lw_m10 239 rfl) rfl
theorem q2470 : (Jvm.Cond.fieldLink "KeyringCourtModel" (152 : Nat) "KeyringCourtModel" "tAudience" "[I") ∈ lw_all := lw_g (lw_at lw_m11 0 rfl) rfl
theorem q2471 : (Jvm.Cond.fieldLink "KeyringCourtModel" (155 : Nat) "KeyringCourtModel" "tScopes" "[I") ∈ lw_all := lw_g (lw_at lw_m11 1 rfl) rfl
theorem q2472 : (Jvm.Cond.fieldLink "KeyringCourtModel" (158 : Nat) "KeyringCourtModel" "tActed" "[I") ∈ lw_all := lw_g (lw_at lw_m11 2 rfl) rfl
theorem q2473 : (Jvm.Cond.fieldLink "KeyringCourtModel" (161 : Nat) "KeyringCourtModel" "tFamily" "[I") ∈ lw_all := lw_g (lw_at lw_m11 3 rfl) rfl
theorem q2474 : (Jvm.Cond.fieldLink "KeyringCourtModel" (164 : Nat) "KeyringCourtModel" "tKey" "[I") ∈ lw_all := lw_g (lw_at lw_m11 4 rfl) rfl
theorem q2475 : (Jvm.Cond.fieldLink "KeyringCourtModel" (167 : Nat) "KeyringCourtModel" "tLast" "[I") ∈ lw_all := lw_g (lw_at lw_m11 5 rfl) rfl
theorem q2476 : (Jvm.Cond.fieldLink "KeyringCourtModel" (170 : Nat) "KeyringCourtModel" "keys" "I") ∈ lw_all := lw_g (lw_at lw_m11 6 rfl) rfl
theorem q2477 : (Jvm.Cond.fieldLink "KeyringCourtModel" (281 : Nat) "KeyringCourtModel" "signs" "I") ∈ lw_all := lw_g (lw_at lw_m11 7 rfl) rfl
theorem q2478 : (Jvm.Cond.fieldLink "KeyringCourtModel" (174 : Nat) "KeyringCourtModel" "waits" "I") ∈ lw_all := lw_g (lw_at lw_m11 8 rfl) rfl
theorem q2479 : (Jvm.Cond.fieldLink "KeyringCourtModel" (278 : Nat) "KeyringCourtModel" "signsAt" "I") ∈ lw_all := lw_g (lw_at lw_m11 9 rfl) rfl
theorem q2480 : (Jvm.Cond.fieldLink "KeyringCourtModel" (177 : Nat) "KeyringCourtModel" "isOut" "[Z") ∈ lw_all := lw_g (lw_at lw_m11 10 rfl) rfl
theorem q2481 : (Jvm.Cond.fieldLink "KeyringCourtModel" (180 : Nat) "KeyringCourtModel" "retires" "[I") ∈ lw_all := lw_g (lw_at lw_m11 11 rfl) rfl
theorem q2482 : (Jvm.Cond.fieldLink "KeyringCourtModel" (183 : Nat) "KeyringCourtModel" "isDown" "[Z") ∈ lw_all := lw_g (lw_at lw_m11 12 rfl) rfl
theorem q2483 : (Jvm.Cond.fieldLink "KeyringCourtModel" (186 : Nat) "KeyringCourtModel" "cache" "[I") ∈ lw_all := lw_g (lw_at lw_m11 13 rfl) rfl
theorem q2484 : (Jvm.Cond.fieldLink "KeyringCourtModel" (189 : Nat) "KeyringCourtModel" "fetched" "[I") ∈ lw_all := lw_g (lw_at lw_m11 14 rfl) rfl
theorem q2485 : (Jvm.Cond.fieldLink "KeyringCourtModel" (192 : Nat) "KeyringCourtModel" "isTold" "[Z") ∈ lw_all := lw_g (lw_at lw_m11 15 rfl) rfl
theorem q2486 : (Jvm.Cond.fieldLink "KeyringCourtModel" (380 : Nat) "KeyringCourtModel" "recoveries" "I") ∈ lw_all := lw_g (lw_at lw_m11 16 rfl) rfl
theorem q2487 : (Jvm.Cond.fieldLink "KeyringCourtModel" (195 : Nat) "KeyringCourtModel" "rPerson" "[I") ∈ lw_all := lw_g (lw_at lw_m11 17 rfl) rfl
theorem q2488 : (Jvm.Cond.fieldLink "KeyringCourtModel" (198 : Nat) "KeyringCourtModel" "rBegan" "[I") ∈ lw_all := lw_g (lw_at lw_m11 18 rfl) rfl
theorem q2489 : (Jvm.Cond.fieldLink "KeyringCourtModel" (201 : Nat) "KeyringCourtModel" "rOpen" "[Z") ∈ lw_all := lw_g (lw_at lw_m11 19 rfl) rfl
theorem q2490 : (Jvm.Cond.fieldLink "KeyringCourtModel" (204 : Nat) "KeyringCourtModel" "rVouched" "[I") ∈ lw_all := lw_g (lw_at lw_m11 20 rfl) rfl
theorem q2491 : (Jvm.Cond.fieldLink "KeyringCourtModel" (207 : Nat) "KeyringCourtModel" "rLevels" "[I") ∈ lw_all := lw_g (lw_at lw_m11 21 rfl) rfl
theorem q2492 : (Jvm.Cond.fieldLink "KeyringCourtModel" (210 : Nat) "KeyringCourtModel" "linked" "[I") ∈ lw_all := lw_g (lw_at lw_m11 22 rfl) rfl
theorem q2493 : (Jvm.Cond.fieldLink "KeyringCourtModel" (244 : Nat) "KeyringCourtModel" "entries" "I") ∈ lw_all := lw_g (lw_at lw_m11 23 rfl) rfl
theorem q2494 : (Jvm.Cond.fieldLink "KeyringCourtModel" (213 : Nat) "KeyringCourtModel" "eKind" "[I") ∈ lw_all := lw_g (lw_at lw_m11 24 rfl) rfl
theorem q2495 : (Jvm.Cond.fieldLink "KeyringCourtModel" (216 : Nat) "KeyringCourtModel" "eNumber" "[I") ∈ lw_all := lw_g (lw_at lw_m11 25 rfl) rfl
theorem q2496 : (Jvm.Cond.fieldLink "KeyringCourtModel" (219 : Nat) "KeyringCourtModel" "eMinute" "[I") ∈ lw_all := lw_g (lw_at lw_m11 26 rfl) rfl
theorem q2497 : (Jvm.Cond.fieldLink "KeyringCourtModel" (222 : Nat) "KeyringCourtModel" "sum" "I") ∈ lw_all := lw_g (lw_at lw_m11 27 rfl) rfl
theorem q2498 : (Jvm.Cond.fieldLink "KeyringCourtModel" (225 : Nat) "KeyringCourtModel" "thrown" "I") ∈ lw_all := lw_g (lw_at lw_m11 28 rfl) rfl
theorem q2499 : (Jvm.Cond.lays "KeyringCourtModel" "KeyringCourtModel" "clock" "I") ∈ lw_all := lw_g (lw_at lw_m11 29 rfl) rfl
theorem q2500 : (Jvm.Cond.soleField "KeyringCourtModel" "clock") ∈ lw_all := lw_g (lw_at lw_m11 30 rfl) rfl
theorem q2501 : (Jvm.Cond.laysFinal "KeyringCourtModel" "KeyringCourtModel" "factors" "[I") ∈ lw_all := lw_g (lw_at lw_m11 31 rfl) rfl
theorem q2502 : (Jvm.Cond.soleField "KeyringCourtModel" "factors") ∈ lw_all := lw_g (lw_at lw_m11 32 rfl) rfl
theorem q2503 : (Jvm.Cond.laysFinal "KeyringCourtModel" "KeyringCourtModel" "inRow" "[I") ∈ lw_all := lw_g (lw_at lw_m11 33 rfl) rfl
theorem q2504 : (Jvm.Cond.soleField "KeyringCourtModel" "inRow") ∈ lw_all := lw_g (lw_at lw_m11 34 rfl) rfl
theorem q2505 : (Jvm.Cond.laysFinal "KeyringCourtModel" "KeyringCourtModel" "counter" "[I") ∈ lw_all := lw_g (lw_at lw_m11 35 rfl) rfl
theorem q2506 : (Jvm.Cond.soleField "KeyringCourtModel" "counter") ∈ lw_all := lw_g (lw_at lw_m11 36 rfl) rfl
theorem q2507 : (Jvm.Cond.laysFinal "KeyringCourtModel" "KeyringCourtModel" "wrongAt" "[I") ∈ lw_all := lw_g (lw_at lw_m11 37 rfl) rfl
theorem q2508 : (Jvm.Cond.soleField "KeyringCourtModel" "wrongAt") ∈ lw_all := lw_g (lw_at lw_m11 38 rfl) rfl
theorem q2509 : (Jvm.Cond.laysFinal "KeyringCourtModel" "KeyringCourtModel" "knowsDevice" "[Z") ∈ lw_all := lw_g (lw_at lw_m11 39 rfl) rfl
theorem q2510 : (Jvm.Cond.soleField "KeyringCourtModel" "knowsDevice") ∈ lw_all := lw_g (lw_at lw_m11 40 rfl) rfl
theorem q2511 : (Jvm.Cond.laysFinal "KeyringCourtModel" "KeyringCourtModel" "knowsPlace" "[Z") ∈ lw_all := lw_g (lw_at lw_m11 41 rfl) rfl
theorem q2512 : (Jvm.Cond.soleField "KeyringCourtModel" "knowsPlace") ∈ lw_all := lw_g (lw_at lw_m11 42 rfl) rfl
theorem q2513 : (Jvm.Cond.laysFinal "KeyringCourtModel" "KeyringCourtModel" "isAway" "[Z") ∈ lw_all := lw_g (lw_at lw_m11 43 rfl) rfl
theorem q2514 : (Jvm.Cond.soleField "KeyringCourtModel" "isAway") ∈ lw_all := lw_g (lw_at lw_m11 44 rfl) rfl
theorem q2515 : (Jvm.Cond.laysFinal "KeyringCourtModel" "KeyringCourtModel" "isHelper" "[Z") ∈ lw_all := lw_g (lw_at lw_m11 45 rfl) rfl
theorem q2516 : (Jvm.Cond.soleField "KeyringCourtModel" "isHelper") ∈ lw_all := lw_g (lw_at lw_m11 46 rfl) rfl
theorem q2517 : (Jvm.Cond.lays "KeyringCourtModel" "KeyringCourtModel" "versions" "I") ∈ lw_all := lw_g (lw_at lw_m11 47 rfl) rfl
theorem q2518 : (Jvm.Cond.soleField "KeyringCourtModel" "versions") ∈ lw_all := lw_g (lw_at lw_m11 48 rfl) rfl
theorem q2519 : (Jvm.Cond.laysFinal "KeyringCourtModel" "KeyringCourtModel" "steps" "[I") ∈ lw_all := lw_g (lw_at lw_m11 49 rfl) rfl
theorem q2520 : (Jvm.Cond.soleField "KeyringCourtModel" "steps") ∈ lw_all := lw_g (lw_at lw_m11 50 rfl) rfl
theorem q2521 : (Jvm.Cond.laysFinal "KeyringCourtModel" "KeyringCourtModel" "stepKind" "[I") ∈ lw_all := lw_g (lw_at lw_m11 51 rfl) rfl
theorem q2522 : (Jvm.Cond.soleField "KeyringCourtModel" "stepKind") ∈ lw_all := lw_g (lw_at lw_m11 52 rfl) rfl
theorem q2523 : (Jvm.Cond.laysFinal "KeyringCourtModel" "KeyringCourtModel" "stepA" "[I") ∈ lw_all := lw_g (lw_at lw_m11 53 rfl) rfl
theorem q2524 : (Jvm.Cond.soleField "KeyringCourtModel" "stepA") ∈ lw_all := lw_g (lw_at lw_m11 54 rfl) rfl
theorem q2525 : (Jvm.Cond.laysFinal "KeyringCourtModel" "KeyringCourtModel" "stepB" "[I") ∈ lw_all := lw_g (lw_at lw_m11 55 rfl) rfl
theorem q2526 : (Jvm.Cond.soleField "KeyringCourtModel" "stepB") ∈ lw_all := lw_g (lw_at lw_m11 56 rfl) rfl
theorem q2527 : (Jvm.Cond.laysFinal "KeyringCourtModel" "KeyringCourtModel" "stepYes" "[I") ∈ lw_all := lw_g (lw_at lw_m11 57 rfl) rfl
theorem q2528 : (Jvm.Cond.soleField "KeyringCourtModel" "stepYes") ∈ lw_all := lw_g (lw_at lw_m11 58 rfl) rfl
theorem q2529 : (Jvm.Cond.laysFinal "KeyringCourtModel" "KeyringCourtModel" "stepNo" "[I") ∈ lw_all := lw_g (lw_at lw_m11 59 rfl) rfl
theorem q2530 : (Jvm.Cond.soleField "KeyringCourtModel" "stepNo") ∈ lw_all := lw_g (lw_at lw_m11 60 rfl) rfl
theorem q2531 : (Jvm.Cond.laysFinal "KeyringCourtModel" "KeyringCourtModel" "met" "[Z") ∈ lw_all := lw_g (lw_at lw_m11 61 rfl) rfl
theorem q2532 : (Jvm.Cond.soleField "KeyringCourtModel" "met") ∈ lw_all := lw_g (lw_at lw_m11 62 rfl) rfl
theorem q2533 : (Jvm.Cond.laysFinal "KeyringCourtModel" "KeyringCourtModel" "points" "[I") ∈ lw_all := lw_g (lw_at lw_m11 63 rfl) rfl
theorem q2534 : (Jvm.Cond.soleField "KeyringCourtModel" "points") ∈ lw_all := lw_g (lw_at lw_m11 64 rfl) rfl
theorem q2535 : (Jvm.Cond.laysFinal "KeyringCourtModel" "KeyringCourtModel" "trial" "[I") ∈ lw_all := lw_g (lw_at lw_m11 65 rfl) rfl
theorem q2536 : (Jvm.Cond.soleField "KeyringCourtModel" "trial") ∈ lw_all := lw_g (lw_at lw_m11 66 rfl) rfl
theorem q2537 : (Jvm.Cond.lays "KeyringCourtModel" "KeyringCourtModel" "attempts" "I") ∈ lw_all := lw_g (lw_at lw_m11 67 rfl) rfl
theorem q2538 : (Jvm.Cond.soleField "KeyringCourtModel" "attempts") ∈ lw_all := lw_g (lw_at lw_m11 68 rfl) rfl
theorem q2539 : (Jvm.Cond.laysFinal "KeyringCourtModel" "KeyringCourtModel" "aPerson" "[I") ∈ lw_all := lw_g (lw_at lw_m11 69 rfl) rfl
theorem q2540 : (Jvm.Cond.soleField "KeyringCourtModel" "aPerson") ∈ lw_all := lw_g (lw_at lw_m11 70 rfl) rfl
theorem q2541 : (Jvm.Cond.laysFinal "KeyringCourtModel" "KeyringCourtModel" "aDevice" "[I") ∈ lw_all := lw_g (lw_at lw_m11 71 rfl) rfl
theorem q2542 : (Jvm.Cond.soleField "KeyringCourtModel" "aDevice") ∈ lw_all := lw_g (lw_at lw_m11 72 rfl) rfl
theorem q2543 : (Jvm.Cond.laysFinal "KeyringCourtModel" "KeyringCourtModel" "aPlace" "[I") ∈ lw_all := lw_g (lw_at lw_m11 73 rfl) rfl
theorem q2544 : (Jvm.Cond.soleField "KeyringCourtModel" "aPlace") ∈ lw_all := lw_g (lw_at lw_m11 74 rfl) rfl
theorem q2545 : (Jvm.Cond.laysFinal "KeyringCourtModel" "KeyringCourtModel" "aVersion" "[I") ∈ lw_all := lw_g (lw_at lw_m11 75 rfl) rfl
theorem q2546 : (Jvm.Cond.soleField "KeyringCourtModel" "aVersion") ∈ lw_all := lw_g (lw_at lw_m11 76 rfl) rfl
theorem q2547 : (Jvm.Cond.laysFinal "KeyringCourtModel" "KeyringCourtModel" "aStep" "[I") ∈ lw_all := lw_g (lw_at lw_m11 77 rfl) rfl
theorem q2548 : (Jvm.Cond.soleField "KeyringCourtModel" "aStep") ∈ lw_all := lw_g (lw_at lw_m11 78 rfl) rfl
theorem q2549 : (Jvm.Cond.laysFinal "KeyringCourtModel" "KeyringCourtModel" "aState" "[I") ∈ lw_all := lw_g (lw_at lw_m11 79 rfl) rfl
theorem q2550 : (Jvm.Cond.soleField "KeyringCourtModel" "aState") ∈ lw_all := lw_g (lw_at lw_m11 80 rfl) rfl
theorem q2551 : (Jvm.Cond.laysFinal "KeyringCourtModel" "KeyringCourtModel" "aWrong" "[I") ∈ lw_all := lw_g (lw_at lw_m11 81 rfl) rfl
theorem q2552 : (Jvm.Cond.soleField "KeyringCourtModel" "aWrong") ∈ lw_all := lw_g (lw_at lw_m11 82 rfl) rfl
theorem q2553 : (Jvm.Cond.laysFinal "KeyringCourtModel" "KeyringCourtModel" "aAnswers" "[I") ∈ lw_all := lw_g (lw_at lw_m11 83 rfl) rfl
theorem q2554 : (Jvm.Cond.soleField "KeyringCourtModel" "aAnswers") ∈ lw_all := lw_g (lw_at lw_m11 84 rfl) rfl
theorem q2555 : (Jvm.Cond.laysFinal "KeyringCourtModel" "KeyringCourtModel" "aSession" "[I") ∈ lw_all := lw_g (lw_at lw_m11 85 rfl) rfl
theorem q2556 : (Jvm.Cond.soleField "KeyringCourtModel" "aSession") ∈ lw_all := lw_g (lw_at lw_m11 86 rfl) rfl
theorem q2557 : (Jvm.Cond.laysFinal "KeyringCourtModel" "KeyringCourtModel" "aShown" "[I") ∈ lw_all := lw_g (lw_at lw_m11 87 rfl) rfl
theorem q2558 : (Jvm.Cond.soleField "KeyringCourtModel" "aShown") ∈ lw_all := lw_g (lw_at lw_m11 88 rfl) rfl
theorem q2559 : (Jvm.Cond.lays "KeyringCourtModel" "KeyringCourtModel" "sessions" "I") ∈ lw_all := lw_g (lw_at lw_m11 89 rfl) rfl
theorem q2560 : (Jvm.Cond.soleField "KeyringCourtModel" "sessions") ∈ lw_all := lw_g (lw_at lw_m11 90 rfl) rfl
theorem q2561 : (Jvm.Cond.laysFinal "KeyringCourtModel" "KeyringCourtModel" "sPerson" "[I") ∈ lw_all := lw_g (lw_at lw_m11 91 rfl) rfl
theorem q2562 : (Jvm.Cond.soleField "KeyringCourtModel" "sPerson") ∈ lw_all := lw_g (lw_at lw_m11 92 rfl) rfl
theorem q2563 : (Jvm.Cond.laysFinal "KeyringCourtModel" "KeyringCourtModel" "sBegan" "[I") ∈ lw_all := lw_g (lw_at lw_m11 93 rfl) rfl
theorem q2564 : (Jvm.Cond.soleField "KeyringCourtModel" "sBegan") ∈ lw_all := lw_g (lw_at lw_m11 94 rfl) rfl
theorem q2565 : (Jvm.Cond.laysFinal "KeyringCourtModel" "KeyringCourtModel" "sUsed" "[I") ∈ lw_all := lw_g (lw_at lw_m11 95 rfl) rfl
theorem q2566 : (Jvm.Cond.soleField "KeyringCourtModel" "sUsed") ∈ lw_all := lw_g (lw_at lw_m11 96 rfl) rfl
theorem q2567 : (Jvm.Cond.laysFinal "KeyringCourtModel" "KeyringCourtModel" "sOwner" "[I") ∈ lw_all := lw_g (lw_at lw_m11 97 rfl) rfl
theorem q2568 : (Jvm.Cond.soleField "KeyringCourtModel" "sOwner") ∈ lw_all := lw_g (lw_at lw_m11 98 rfl) rfl
theorem q2569 : (Jvm.Cond.laysFinal "KeyringCourtModel" "KeyringCourtModel" "sLive" "[Z") ∈ lw_all := lw_g (lw_at lw_m11 99 rfl) rfl
theorem q2570 : (Jvm.Cond.soleField "KeyringCourtModel" "sLive") ∈ lw_all := lw_g (lw_at lw_m11 100 rfl) rfl
theorem q2571 : (Jvm.Cond.laysFinal "KeyringCourtModel" "KeyringCourtModel" "sShown" "[I") ∈ lw_all := lw_g (lw_at lw_m11 101 rfl) rfl
theorem q2572 : (Jvm.Cond.soleField "KeyringCourtModel" "sShown") ∈ lw_all := lw_g (lw_at lw_m11 102 rfl) rfl
theorem q2573 : (Jvm.Cond.laysFinal "KeyringCourtModel" "KeyringCourtModel" "consents" "[I") ∈ lw_all := lw_g (lw_at lw_m11 103 rfl) rfl
theorem q2574 : (Jvm.Cond.soleField "KeyringCourtModel" "consents") ∈ lw_all := lw_g (lw_at lw_m11 104 rfl) rfl
theorem q2575 : (Jvm.Cond.laysFinal "KeyringCourtModel" "KeyringCourtModel" "needs" "[I") ∈ lw_all := lw_g (lw_at lw_m11 105 rfl) rfl
theorem q2576 : (Jvm.Cond.soleField "KeyringCourtModel" "needs") ∈ lw_all := lw_g (lw_at lw_m11 106 rfl) rfl
theorem q2577 : (Jvm.Cond.lays "KeyringCourtModel" "KeyringCourtModel" "codes" "I") ∈ lw_all := lw_g (lw_at lw_m11 107 rfl) rfl
theorem q2578 : (Jvm.Cond.soleField "KeyringCourtModel" "codes") ∈ lw_all := lw_g (lw_at lw_m11 108 rfl) rfl
theorem q2579 : (Jvm.Cond.laysFinal "KeyringCourtModel" "KeyringCourtModel" "cSession" "[I") ∈ lw_all := lw_g (lw_at lw_m11 109 rfl) rfl
theorem q2580 : (Jvm.Cond.soleField "KeyringCourtModel" "cSession") ∈ lw_all := lw_g (lw_at lw_m11 110 rfl) rfl
theorem q2581 : (Jvm.Cond.laysFinal "KeyringCourtModel" "KeyringCourtModel" "cClient" "[I") ∈ lw_all := lw_g (lw_at lw_m11 111 rfl) rfl
theorem q2582 : (Jvm.Cond.soleField "KeyringCourtModel" "cClient") ∈ lw_all := lw_g (lw_at lw_m11 112 rfl) rfl
theorem q2583 : (Jvm.Cond.laysFinal "KeyringCourtModel" "KeyringCourtModel" "cAudience" "[I") ∈ lw_all := lw_g (lw_at lw_m11 113 rfl) rfl
theorem q2584 : (Jvm.Cond.soleField "KeyringCourtModel" "cAudience") ∈ lw_all := lw_g (lw_at lw_m11 114 rfl) rfl
theorem q2585 : (Jvm.Cond.laysFinal "KeyringCourtModel" "KeyringCourtModel" "cScopes" "[I") ∈ lw_all := lw_g (lw_at lw_m11 115 rfl) rfl
theorem q2586 : (Jvm.Cond.soleField "KeyringCourtModel" "cScopes") ∈ lw_all := lw_g (lw_at lw_m11 116 rfl) rfl
theorem q2587 : (Jvm.Cond.laysFinal "KeyringCourtModel" "KeyringCourtModel" "cMade" "[I") ∈ lw_all := lw_g (lw_at lw_m11 117 rfl) rfl
theorem q2588 : (Jvm.Cond.soleField "KeyringCourtModel" "cMade") ∈ lw_all := lw_g (lw_at lw_m11 118 rfl) rfl
theorem q2589 : (Jvm.Cond.laysFinal "KeyringCourtModel" "KeyringCourtModel" "cFamily" "[I") ∈ lw_all := lw_g (lw_at lw_m11 119 rfl) rfl
theorem q2590 : (Jvm.Cond.soleField "KeyringCourtModel" "cFamily") ∈ lw_all := lw_g (lw_at lw_m11 120 rfl) rfl
theorem q2591 : (Jvm.Cond.lays "KeyringCourtModel" "KeyringCourtModel" "families" "I") ∈ lw_all := lw_g (lw_at lw_m11 121 rfl) rfl
theorem q2592 : (Jvm.Cond.soleField "KeyringCourtModel" "families") ∈ lw_all := lw_g (lw_at lw_m11 122 rfl) rfl
theorem q2593 : (Jvm.Cond.laysFinal "KeyringCourtModel" "KeyringCourtModel" "fCode" "[I") ∈ lw_all := lw_g (lw_at lw_m11 123 rfl) rfl
theorem q2594 : (Jvm.Cond.soleField "KeyringCourtModel" "fCode") ∈ lw_all := lw_g (lw_at lw_m11 124 rfl) rfl
theorem q2595 : (Jvm.Cond.laysFinal "KeyringCourtModel" "KeyringCourtModel" "fNumber" "[I") ∈ lw_all := lw_g (lw_at lw_m11 125 rfl) rfl
theorem q2596 : (Jvm.Cond.soleField "KeyringCourtModel" "fNumber") ∈ lw_all := lw_g (lw_at lw_m11 126 rfl) rfl
theorem q2597 : (Jvm.Cond.laysFinal "KeyringCourtModel" "KeyringCourtModel" "fMinute" "[I") ∈ lw_all := lw_g (lw_at lw_m11 127 rfl) rfl
theorem q2598 : (Jvm.Cond.soleField "KeyringCourtModel" "fMinute") ∈ lw_all := lw_g (lw_at lw_m11 128 rfl) rfl
theorem q2599 : (Jvm.Cond.laysFinal "KeyringCourtModel" "KeyringCourtModel" "fToken" "[I") ∈ lw_all := lw_g (lw_at lw_m11 129 rfl) rfl
theorem q2600 : (Jvm.Cond.soleField "KeyringCourtModel" "fToken") ∈ lw_all := lw_g (lw_at lw_m11 130 rfl) rfl
theorem q2601 : (Jvm.Cond.laysFinal "KeyringCourtModel" "KeyringCourtModel" "fGood" "[Z") ∈ lw_all := lw_g (lw_at lw_m11 131 rfl) rfl
theorem q2602 : (Jvm.Cond.soleField "KeyringCourtModel" "fGood") ∈ lw_all := lw_g (lw_at lw_m11 132 rfl) rfl
theorem q2603 : (Jvm.Cond.lays "KeyringCourtModel" "KeyringCourtModel" "tokens" "I") ∈ lw_all := lw_g (lw_at lw_m11 133 rfl) rfl
theorem q2604 : (Jvm.Cond.soleField "KeyringCourtModel" "tokens") ∈ lw_all := lw_g (lw_at lw_m11 134 rfl) rfl
theorem q2605 : (Jvm.Cond.laysFinal "KeyringCourtModel" "KeyringCourtModel" "tClient" "[I") ∈ lw_all := lw_g (lw_at lw_m11 135 rfl) rfl
theorem q2606 : (Jvm.Cond.soleField "KeyringCourtModel" "tClient") ∈ lw_all := lw_g (lw_at lw_m11 136 rfl) rfl
theorem q2607 : (Jvm.Cond.laysFinal "KeyringCourtModel" "KeyringCourtModel" "tAudience" "[I") ∈ lw_all := lw_g (lw_at lw_m11 137 rfl) rfl
theorem q2608 : (Jvm.Cond.soleField "KeyringCourtModel" "tAudience") ∈ lw_all := lw_g (lw_at lw_m11 138 rfl) rfl
theorem q2609 : (Jvm.Cond.laysFinal "KeyringCourtModel" "KeyringCourtModel" "tScopes" "[I") ∈ lw_all := lw_g (lw_at lw_m11 139 rfl) rfl
theorem q2610 : (Jvm.Cond.soleField "KeyringCourtModel" "tScopes") ∈ lw_all := lw_g (lw_at lw_m11 140 rfl) rfl
theorem q2611 : (Jvm.Cond.laysFinal "KeyringCourtModel" "KeyringCourtModel" "tActed" "[I") ∈ lw_all := lw_g (lw_at lw_m11 141 rfl) rfl
theorem q2612 : (Jvm.Cond.soleField "KeyringCourtModel" "tActed") ∈ lw_all := lw_g (lw_at lw_m11 142 rfl) rfl
theorem q2613 : (Jvm.Cond.laysFinal "KeyringCourtModel" "KeyringCourtModel" "tFamily" "[I") ∈ lw_all := lw_g (lw_at lw_m11 143 rfl) rfl
theorem q2614 : (Jvm.Cond.soleField "KeyringCourtModel" "tFamily") ∈ lw_all := lw_g (lw_at lw_m11 144 rfl) rfl
theorem q2615 : (Jvm.Cond.laysFinal "KeyringCourtModel" "KeyringCourtModel" "tKey" "[I") ∈ lw_all := lw_g (lw_at lw_m11 145 rfl) rfl
theorem q2616 : (Jvm.Cond.soleField "KeyringCourtModel" "tKey") ∈ lw_all := lw_g (lw_at lw_m11 146 rfl) rfl
theorem q2617 : (Jvm.Cond.laysFinal "KeyringCourtModel" "KeyringCourtModel" "tLast" "[I") ∈ lw_all := lw_g (lw_at lw_m11 147 rfl) rfl
theorem q2618 : (Jvm.Cond.soleField "KeyringCourtModel" "tLast") ∈ lw_all := lw_g (lw_at lw_m11 148 rfl) rfl
theorem q2619 : (Jvm.Cond.lays "KeyringCourtModel" "KeyringCourtModel" "keys" "I") ∈ lw_all := lw_g (lw_at lw_m11 149 rfl) rfl
theorem q2620 : (Jvm.Cond.soleField "KeyringCourtModel" "keys") ∈ lw_all := lw_g (lw_at lw_m11 150 rfl) rfl
theorem q2621 : (Jvm.Cond.lays "KeyringCourtModel" "KeyringCourtModel" "signs" "I") ∈ lw_all := lw_g (lw_at lw_m11 151 rfl) rfl
theorem q2622 : (Jvm.Cond.soleField "KeyringCourtModel" "signs") ∈ lw_all := lw_g (lw_at lw_m11 152 rfl) rfl
theorem q2623 : (Jvm.Cond.lays "KeyringCourtModel" "KeyringCourtModel" "waits" "I") ∈ lw_all := lw_g (lw_at lw_m11 153 rfl) rfl
theorem q2624 : (Jvm.Cond.soleField "KeyringCourtModel" "waits") ∈ lw_all := lw_g (lw_at lw_m11 154 rfl) rfl
theorem q2625 : (Jvm.Cond.lays "KeyringCourtModel" "KeyringCourtModel" "signsAt" "I") ∈ lw_all := lw_g (lw_at lw_m11 155 rfl) rfl
theorem q2626 : (Jvm.Cond.soleField "KeyringCourtModel" "signsAt") ∈ lw_all := lw_g (lw_at lw_m11 156 rfl) rfl
theorem q2627 : (Jvm.Cond.laysFinal "KeyringCourtModel" "KeyringCourtModel" "isOut" "[Z") ∈ lw_all := lw_g (lw_at lw_m11 157 rfl) rfl
theorem q2628 : (Jvm.Cond.soleField "KeyringCourtModel" "isOut") ∈ lw_all := lw_g (lw_at lw_m11 158 rfl) rfl
theorem q2629 : (Jvm.Cond.laysFinal "KeyringCourtModel" "KeyringCourtModel" "retires" "[I") ∈ lw_all := lw_g (lw_at lw_m11 159 rfl) rfl
theorem q2630 : (Jvm.Cond.soleField "KeyringCourtModel" "retires") ∈ lw_all := lw_g (lw_at lw_m11 160 rfl) rfl
theorem q2631 : (Jvm.Cond.laysFinal "KeyringCourtModel" "KeyringCourtModel" "isDown" "[Z") ∈ lw_all := lw_g (lw_at lw_m11 161 rfl) rfl
theorem q2632 : (Jvm.Cond.soleField "KeyringCourtModel" "isDown") ∈ lw_all := lw_g (lw_at lw_m11 162 rfl) rfl
theorem q2633 : (Jvm.Cond.laysFinal "KeyringCourtModel" "KeyringCourtModel" "cache" "[I") ∈ lw_all := lw_g (lw_at lw_m11 163 rfl) rfl
theorem q2634 : (Jvm.Cond.soleField "KeyringCourtModel" "cache") ∈ lw_all := lw_g (lw_at lw_m11 164 rfl) rfl
theorem q2635 : (Jvm.Cond.laysFinal "KeyringCourtModel" "KeyringCourtModel" "fetched" "[I") ∈ lw_all := lw_g (lw_at lw_m11 165 rfl) rfl
theorem q2636 : (Jvm.Cond.soleField "KeyringCourtModel" "fetched") ∈ lw_all := lw_g (lw_at lw_m11 166 rfl) rfl
theorem q2637 : (Jvm.Cond.laysFinal "KeyringCourtModel" "KeyringCourtModel" "isTold" "[Z") ∈ lw_all := lw_g (lw_at lw_m11 167 rfl) rfl
theorem q2638 : (Jvm.Cond.soleField "KeyringCourtModel" "isTold") ∈ lw_all := lw_g (lw_at lw_m11 168 rfl) rfl
theorem q2639 : (Jvm.Cond.lays "KeyringCourtModel" "KeyringCourtModel" "recoveries" "I") ∈ lw_all := lw_g (lw_at lw_m11 169 rfl) rfl
theorem q2640 : (Jvm.Cond.soleField "KeyringCourtModel" "recoveries") ∈ lw_all := lw_g (lw_at lw_m11 170 rfl) rfl
theorem q2641 : (Jvm.Cond.laysFinal "KeyringCourtModel" "KeyringCourtModel" "rPerson" "[I") ∈ lw_all := lw_g (lw_at lw_m11 171 rfl) rfl
theorem q2642 : (Jvm.Cond.soleField "KeyringCourtModel" "rPerson") ∈ lw_all := lw_g (lw_at lw_m11 172 rfl) rfl
theorem q2643 : (Jvm.Cond.laysFinal "KeyringCourtModel" "KeyringCourtModel" "rBegan" "[I") ∈ lw_all := lw_g (lw_at lw_m11 173 rfl) rfl
theorem q2644 : (Jvm.Cond.soleField "KeyringCourtModel" "rBegan") ∈ lw_all := lw_g (lw_at lw_m11 174 rfl) rfl
theorem q2645 : (Jvm.Cond.laysFinal "KeyringCourtModel" "KeyringCourtModel" "rOpen" "[Z") ∈ lw_all := lw_g (lw_at lw_m11 175 rfl) rfl
theorem q2646 : (Jvm.Cond.soleField "KeyringCourtModel" "rOpen") ∈ lw_all := lw_g (lw_at lw_m11 176 rfl) rfl
theorem q2647 : (Jvm.Cond.laysFinal "KeyringCourtModel" "KeyringCourtModel" "rVouched" "[I") ∈ lw_all := lw_g (lw_at lw_m11 177 rfl) rfl
theorem q2648 : (Jvm.Cond.soleField "KeyringCourtModel" "rVouched") ∈ lw_all := lw_g (lw_at lw_m11 178 rfl) rfl
theorem q2649 : (Jvm.Cond.laysFinal "KeyringCourtModel" "KeyringCourtModel" "rLevels" "[I") ∈ lw_all := lw_g (lw_at lw_m11 179 rfl) rfl
theorem q2650 : (Jvm.Cond.soleField "KeyringCourtModel" "rLevels") ∈ lw_all := lw_g (lw_at lw_m11 180 rfl) rfl
theorem q2651 : (Jvm.Cond.laysFinal "KeyringCourtModel" "KeyringCourtModel" "linked" "[I") ∈ lw_all := lw_g (lw_at lw_m11 181 rfl) rfl
theorem q2652 : (Jvm.Cond.soleField "KeyringCourtModel" "linked") ∈ lw_all := lw_g (lw_at lw_m11 182 rfl) rfl
theorem q2653 : (Jvm.Cond.lays "KeyringCourtModel" "KeyringCourtModel" "entries" "I") ∈ lw_all := lw_g (lw_at lw_m11 183 rfl) rfl
theorem q2654 : (Jvm.Cond.soleField "KeyringCourtModel" "entries") ∈ lw_all := lw_g (lw_at lw_m11 184 rfl) rfl
theorem q2655 : (Jvm.Cond.laysFinal "KeyringCourtModel" "KeyringCourtModel" "eKind" "[I") ∈ lw_all := lw_g (lw_at lw_m11 185 rfl) rfl
theorem q2656 : (Jvm.Cond.soleField "KeyringCourtModel" "eKind") ∈ lw_all := lw_g (lw_at lw_m11 186 rfl) rfl
theorem q2657 : (Jvm.Cond.laysFinal "KeyringCourtModel" "KeyringCourtModel" "eNumber" "[I") ∈ lw_all := lw_g (lw_at lw_m11 187 rfl) rfl
theorem q2658 : (Jvm.Cond.soleField "KeyringCourtModel" "eNumber") ∈ lw_all := lw_g (lw_at lw_m11 188 rfl) rfl
theorem q2659 : (Jvm.Cond.laysFinal "KeyringCourtModel" "KeyringCourtModel" "eMinute" "[I") ∈ lw_all := lw_g (lw_at lw_m11 189 rfl) rfl
theorem q2660 : (Jvm.Cond.soleField "KeyringCourtModel" "eMinute") ∈ lw_all := lw_g (lw_at lw_m11 190 rfl) rfl
theorem q2661 : (Jvm.Cond.lays "KeyringCourtModel" "KeyringCourtModel" "sum" "I") ∈ lw_all := lw_g (lw_at lw_m11 191 rfl) rfl
theorem q2662 : (Jvm.Cond.soleField "KeyringCourtModel" "sum") ∈ lw_all := lw_g (lw_at lw_m11 192 rfl) rfl
theorem q2663 : (Jvm.Cond.lays "KeyringCourtModel" "KeyringCourtModel" "thrown" "I") ∈ lw_all := lw_g (lw_at lw_m11 193 rfl) rfl
theorem q2664 : (Jvm.Cond.soleField "KeyringCourtModel" "thrown") ∈ lw_all := lw_g (lw_at lw_m11 194 rfl) rfl
theorem q2665 : (Jvm.Cond.superclass "KeyringCourtModel" "java/lang/Object") ∈ lw_all := lw_g (lw_at lw_m11 195 rfl) rfl
theorem q2668 : (Jvm.Cond.instanceMethod ({ cls := "KeyringCourtModel", name := "thrown", desc := "()I" } : Jvm.MethodName)) ∈ lw_all := lw_g (lw_at lw_m11 198 rfl) rfl
theorem q2669 : (Jvm.Cond.selects "KeyringCourtModel" ({ cls := "KeyringCourtModel", name := "thrown", desc := "()I" } : Jvm.MethodName) ({ cls := "KeyringCourtModel", name := "thrown", desc := "()I" } : Jvm.MethodName)) ∈ lw_all := lw_g (lw_at lw_m11 199 rfl) rfl
theorem q2670 : (Jvm.Cond.code ({ cls := "KeyringCourtModel", name := "thrown", desc := "()I" } : Jvm.MethodName) prog_14_method_2_code (1 : Nat) (Option.some Jvm.ClassFile.FieldType.int)) ∈ lw_all := lw_g (lw_at lw_m11 200 rfl) rfl
theorem q2672 : (Jvm.Cond.instanceMethod ({ cls := "KeyringCourtModel", name := "audits", desc := "()I" } : Jvm.MethodName)) ∈ lw_all := lw_g (lw_at lw_m11 202 rfl) rfl
theorem q2673 : (Jvm.Cond.selects "KeyringCourtModel" ({ cls := "KeyringCourtModel", name := "audits", desc := "()I" } : Jvm.MethodName) ({ cls := "KeyringCourtModel", name := "audits", desc := "()I" } : Jvm.MethodName)) ∈ lw_all := lw_g (lw_at lw_m11 203 rfl) rfl
theorem q2674 : (Jvm.Cond.code ({ cls := "KeyringCourtModel", name := "audits", desc := "()I" } : Jvm.MethodName) prog_14_method_15_code (1 : Nat) (Option.some Jvm.ClassFile.FieldType.int)) ∈ lw_all := lw_g (lw_at lw_m11 204 rfl) rfl
theorem q2676 : (Jvm.Cond.instanceMethod ({ cls := "KeyringCourtModel", name := "audit", desc := "(I)I" } : Jvm.MethodName)) ∈ lw_all := lw_g (lw_at lw_m11 206 rfl) rfl
theorem q2677 : (Jvm.Cond.selects "KeyringCourtModel" ({ cls := "KeyringCourtModel", name := "audit", desc := "(I)I" } : Jvm.MethodName) ({ cls := "KeyringCourtModel", name := "audit", desc := "(I)I" } : Jvm.MethodName)) ∈ lw_all := lw_g (lw_at lw_m11 207 rfl) rfl
theorem q2678 : (Jvm.Cond.code ({ cls := "KeyringCourtModel", name := "audit", desc := "(I)I" } : Jvm.MethodName) prog_14_method_16_code (2 : Nat) (Option.some Jvm.ClassFile.FieldType.int)) ∈ lw_all := lw_g (lw_at lw_m11 208 rfl) rfl
theorem q2679 : (Jvm.Cond.methodLink "KeyringCourtModel" (228 : Nat) ({ cls := "KeyringCourtModel", name := "isIn", desc := "(III)Z" } : Jvm.MethodName)) ∈ lw_all := lw_g (lw_at lw_m11 209 rfl) rfl
theorem q2680 : (Jvm.Cond.static ({ cls := "KeyringCourtModel", name := "isIn", desc := "(III)Z" } : Jvm.MethodName)) ∈ lw_all := lw_g (lw_at lw_m11 210 rfl) rfl
theorem q2681 : (Jvm.Cond.code ({ cls := "KeyringCourtModel", name := "isIn", desc := "(III)Z" } : Jvm.MethodName) prog_14_method_6_code (3 : Nat) (Option.some Jvm.ClassFile.FieldType.boolean)) ∈ lw_all := lw_g (lw_at lw_m11 211 rfl) rfl
theorem q2682 : (Jvm.Cond.methodLink "KeyringCourtModel" (251 : Nat) ({ cls := "KeyringCourtModel", name := "may", desc := "(Z)Z" } : Jvm.MethodName)) ∈ lw_all := lw_g (lw_at lw_m11 212 rfl) rfl
theorem q2683 : (Jvm.Cond.privateMethod ({ cls := "KeyringCourtModel", name := "may", desc := "(Z)Z" } : Jvm.MethodName)) ∈ lw_tbl := lw_at lw_m11 213 rfl
theorem q2684 : (Jvm.Cond.instanceMethod ({ cls := "KeyringCourtModel", name := "may", desc := "(Z)Z" } : Jvm.MethodName)) ∈ lw_all := lw_g (lw_at lw_m11 214 rfl) rfl
theorem q2685 : (Jvm.Cond.code ({ cls := "KeyringCourtModel", name := "may", desc := "(Z)Z" } : Jvm.MethodName) prog_14_method_3_code (2 : Nat) (Option.some Jvm.ClassFile.FieldType.boolean)) ∈ lw_all := lw_g (lw_at lw_m11 215 rfl) rfl
theorem q2687 : (Jvm.Cond.instanceMethod ({ cls := "KeyringCourtModel", name := "sum", desc := "()I" } : Jvm.MethodName)) ∈ lw_all := lw_g (lw_at lw_m11 217 rfl) rfl
theorem q2688 : (Jvm.Cond.selects "KeyringCourtModel" ({ cls := "KeyringCourtModel", name := "sum", desc := "()I" } : Jvm.MethodName) ({ cls := "KeyringCourtModel", name := "sum", desc := "()I" } : Jvm.MethodName)) ∈ lw_all := lw_g (lw_at lw_m11 218 rfl) rfl
theorem q2689 : (Jvm.Cond.code ({ cls := "KeyringCourtModel", name := "sum", desc := "()I" } : Jvm.MethodName) prog_14_method_17_code (1 : Nat) (Option.some Jvm.ClassFile.FieldType.int)) ∈ lw_all := lw_g (lw_at lw_m11 219 rfl) rfl
theorem q2691 : (Jvm.Cond.instanceMethod ({ cls := "KeyringCourtModel", name := "sumAnew", desc := "(I)I" } : Jvm.MethodName)) ∈ lw_all := lw_g (lw_at lw_m11 221 rfl) rfl
theorem q2692 : (Jvm.Cond.selects "KeyringCourtModel" ({ cls := "KeyringCourtModel", name := "sumAnew", desc := "(I)I" } : Jvm.MethodName) ({ cls := "KeyringCourtModel", name := "sumAnew", desc := "(I)I" } : Jvm.MethodName)) ∈ lw_all := lw_g (lw_at lw_m11 222 rfl) rfl
theorem q2693 : (Jvm.Cond.code ({ cls := "KeyringCourtModel", name := "sumAnew", desc := "(I)I" } : Jvm.MethodName) prog_14_method_18_code (4 : Nat) (Option.some Jvm.ClassFile.FieldType.int)) ∈ lw_all := lw_g (lw_at lw_m11 223 rfl) rfl
theorem q2694 : (Jvm.Cond.constant "KeyringCourtModel" (250 : Nat) (65521 : Int32)) ∈ lw_all := lw_g (lw_at lw_m11 224 rfl) rfl
theorem q2696 : (Jvm.Cond.instanceMethod ({ cls := "KeyringCourtModel", name := "pass", desc := "(I)I" } : Jvm.MethodName)) ∈ lw_all := lw_g (lw_at lw_m11 226 rfl) rfl
theorem q2697 : (Jvm.Cond.selects "KeyringCourtModel" ({ cls := "KeyringCourtModel", name := "pass", desc := "(I)I" } : Jvm.MethodName) ({ cls := "KeyringCourtModel", name := "pass", desc := "(I)I" } : Jvm.MethodName)) ∈ lw_all := lw_g (lw_at lw_m11 227 rfl) rfl
theorem q2698 : (Jvm.Cond.code ({ cls := "KeyringCourtModel", name := "pass", desc := "(I)I" } : Jvm.MethodName) prog_14_method_24_code (7 : Nat) (Option.some Jvm.ClassFile.FieldType.int)) ∈ lw_all := lw_g (lw_at lw_m11 228 rfl) rfl
theorem q2699 : (Jvm.Cond.methodLink "KeyringCourtModel" (274 : Nat) ({ cls := "KeyringCourtModel", name := "mayBoth", desc := "(ZZ)Z" } : Jvm.MethodName)) ∈ lw_all := lw_g (lw_at lw_m11 229 rfl) rfl
theorem q2700 : (Jvm.Cond.privateMethod ({ cls := "KeyringCourtModel", name := "mayBoth", desc := "(ZZ)Z" } : Jvm.MethodName)) ∈ lw_tbl := lw_at lw_m11 230 rfl
theorem q2701 : (Jvm.Cond.instanceMethod ({ cls := "KeyringCourtModel", name := "mayBoth", desc := "(ZZ)Z" } : Jvm.MethodName)) ∈ lw_all := lw_g (lw_at lw_m11 231 rfl) rfl
theorem q2702 : (Jvm.Cond.code ({ cls := "KeyringCourtModel", name := "mayBoth", desc := "(ZZ)Z" } : Jvm.MethodName) prog_14_method_4_code (3 : Nat) (Option.some Jvm.ClassFile.FieldType.boolean)) ∈ lw_all := lw_g (lw_at lw_m11 232 rfl) rfl
theorem q2703 : (Jvm.Cond.methodLink "KeyringCourtModel" (255 : Nat) ({ cls := "KeyringCourtModel", name := "write", desc := "(II)V" } : Jvm.MethodName)) ∈ lw_all := lw_g (lw_at lw_m11 233 rfl) rfl
theorem q2704 : (Jvm.Cond.privateMethod ({ cls := "KeyringCourtModel", name := "write", desc := "(II)V" } : Jvm.MethodName)) ∈ lw_tbl := lw_at lw_m11 234 rfl
theorem q2705 : (Jvm.Cond.instanceMethod ({ cls := "KeyringCourtModel", name := "write", desc := "(II)V" } : Jvm.MethodName)) ∈ lw_all := lw_g (lw_at lw_m11 235 rfl) rfl
theorem q2706 : (Jvm.Cond.code ({ cls := "KeyringCourtModel", name := "write", desc := "(II)V" } : Jvm.MethodName) prog_14_method_14_code (3 : Nat) (Option.none : Option Jvm.ClassFile.FieldType)) ∈ lw_all := lw_g (lw_at lw_m11 236 rfl) rfl
theorem q2707 : (Jvm.Cond.methodLink "KeyringCourtModel" (270 : Nat) ({ cls := "KeyringCourtModel", name := "endSession", desc := "(I)I" } : Jvm.MethodName)) ∈ lw_all := lw_g (lw_at lw_m11 237 rfl) rfl
theorem q2708 : (Jvm.Cond.privateMethod ({ cls := "KeyringCourtModel", name := "endSession", desc := "(I)I" } : Jvm.MethodName)) ∈ lw_tbl := lw_at lw_m11 238 rfl
theorem q2709 : (Jvm.Cond.instanceMethod ({ cls := "KeyringCourtModel", name := "endSession", desc := "(I)I" } : Jvm.MethodName)) ∈ lw_all := lw_g (lw_at lw_m11 239 rfl) rfl
theorem q2710 : (Jvm.Cond.code ({ cls := "KeyringCourtModel", name := "endSession", desc := "(I)I" } : Jvm.MethodName) prog_14_method_22_code (4 : Nat) (Option.some Jvm.ClassFile.FieldType.int)) ∈ lw_all := lw_g (lw_at lw_m12 0 rfl) rfl
theorem q2711 : (Jvm.Cond.methodLink "KeyringCourtModel" (267 : Nat) ({ cls := "KeyringCourtModel", name := "endFamiliesOf", desc := "(I)V" } : Jvm.MethodName)) ∈ lw_all := lw_g (lw_at lw_m12 1 rfl) rfl
theorem q2712 : (Jvm.Cond.privateMethod ({ cls := "KeyringCourtModel", name := "endFamiliesOf", desc := "(I)V" } : Jvm.MethodName)) ∈ lw_tbl := lw_at lw_m12 2 rfl
theorem q2713 : (Jvm.Cond.instanceMethod ({ cls := "KeyringCourtModel", name := "endFamiliesOf", desc := "(I)V" } : Jvm.MethodName)) ∈ lw_all := lw_g (lw_at lw_m12 3 rfl) rfl
theorem q2714 : (Jvm.Cond.code ({ cls := "KeyringCourtModel", name := "endFamiliesOf", desc := "(I)V" } : Jvm.MethodName) prog_14_method_21_code (3 : Nat) (Option.none : Option Jvm.ClassFile.FieldType)) ∈ lw_all := lw_g (lw_at lw_m12 4 rfl) rfl
theorem q2715 : (Jvm.Cond.methodLink "KeyringCourtModel" (263 : Nat) ({ cls := "KeyringCourtModel", name := "endFamily", desc := "(I)V" } : Jvm.MethodName)) ∈ lw_all := lw_g (lw_at lw_m12 5 rfl) rfl
theorem q2716 : (Jvm.Cond.privateMethod ({ cls := "KeyringCourtModel", name := "endFamily", desc := "(I)V" } : Jvm.MethodName)) ∈ lw_tbl := lw_at lw_m12 6 rfl
theorem q2717 : (Jvm.Cond.instanceMethod ({ cls := "KeyringCourtModel", name := "endFamily", desc := "(I)V" } : Jvm.MethodName)) ∈ lw_all := lw_g (lw_at lw_m12 7 rfl) rfl
theorem q2718 : (Jvm.Cond.code ({ cls := "KeyringCourtModel", name := "endFamily", desc := "(I)V" } : Jvm.MethodName) prog_14_method_20_code (3 : Nat) (Option.none : Option Jvm.ClassFile.FieldType)) ∈ lw_all := lw_g (lw_at lw_m12 8 rfl) rfl
theorem q2719 : (Jvm.Cond.methodLink "KeyringCourtModel" (259 : Nat) ({ cls := "KeyringCourtModel", name := "hears", desc := "(II)Z" } : Jvm.MethodName)) ∈ lw_all := lw_g (lw_at lw_m12 9 rfl) rfl
theorem q2720 : (Jvm.Cond.privateMethod ({ cls := "KeyringCourtModel", name := "hears", desc := "(II)Z" } : Jvm.MethodName)) ∈ lw_tbl := lw_at lw_m12 10 rfl
theorem q2721 : (Jvm.Cond.instanceMethod ({ cls := "KeyringCourtModel", name := "hears", desc := "(II)Z" } : Jvm.MethodName)) ∈ lw_all := lw_g (lw_at lw_m12 11 rfl) rfl
theorem q2722 : (Jvm.Cond.code ({ cls := "KeyringCourtModel", name := "hears", desc := "(II)Z" } : Jvm.MethodName) prog_14_method_19_code (5 : Nat) (Option.some Jvm.ClassFile.FieldType.boolean)) ∈ lw_all := lw_g (lw_at lw_m12 12 rfl) rfl
theorem q2724 : (Jvm.Cond.instanceMethod ({ cls := "KeyringCourtModel", name := "enroll", desc := "(II)I" } : Jvm.MethodName)) ∈ lw_all := lw_g (lw_at lw_m12 14 rfl) rfl
theorem q2725 : (Jvm.Cond.selects "KeyringCourtModel" ({ cls := "KeyringCourtModel", name := "enroll", desc := "(II)I" } : Jvm.MethodName) ({ cls := "KeyringCourtModel", name := "enroll", desc := "(II)I" } : Jvm.MethodName)) ∈ lw_all := lw_g (lw_at lw_m12 15 rfl) rfl
theorem q2726 : (Jvm.Cond.code ({ cls := "KeyringCourtModel", name := "enroll", desc := "(II)I" } : Jvm.MethodName) prog_14_method_26_code (4 : Nat) (Option.some Jvm.ClassFile.FieldType.int)) ∈ lw_all := lw_g (lw_at lw_m12 16 rfl) rfl
theorem q2727 : (Jvm.Cond.methodLink "KeyringCourtModel" (284 : Nat) ({ cls := "KeyringCourtModel", name := "isSix", desc := "(I)Z" } : Jvm.MethodName)) ∈ lw_all := lw_g (lw_at lw_m12 17 rfl) rfl
theorem q2728 : (Jvm.Cond.static ({ cls := "KeyringCourtModel", name := "isSix", desc := "(I)Z" } : Jvm.MethodName)) ∈ lw_all := lw_g (lw_at lw_m12 18 rfl) rfl
theorem q2729 : (Jvm.Cond.code ({ cls := "KeyringCourtModel", name := "isSix", desc := "(I)Z" } : Jvm.MethodName) prog_14_method_7_code (1 : Nat) (Option.some Jvm.ClassFile.FieldType.boolean)) ∈ lw_all := lw_g (lw_at lw_m12 19 rfl) rfl
theorem q2730 : (Jvm.Cond.methodLink "KeyringCourtModel" (288 : Nat) ({ cls := "KeyringCourtModel", name := "isFactor", desc := "(I)Z" } : Jvm.MethodName)) ∈ lw_all := lw_g (lw_at lw_m12 20 rfl) rfl
theorem q2731 : (Jvm.Cond.static ({ cls := "KeyringCourtModel", name := "isFactor", desc := "(I)Z" } : Jvm.MethodName)) ∈ lw_all := lw_g (lw_at lw_m12 21 rfl) rfl
theorem q2732 : (Jvm.Cond.code ({ cls := "KeyringCourtModel", name := "isFactor", desc := "(I)Z" } : Jvm.MethodName) prog_14_method_8_code (1 : Nat) (Option.some Jvm.ClassFile.FieldType.boolean)) ∈ lw_all := lw_g (lw_at lw_m12 22 rfl) rfl
theorem q2733 : (Jvm.Cond.methodLink "KeyringCourtModel" (291 : Nat) ({ cls := "KeyringCourtModel", name := "ready", desc := "(II)V" } : Jvm.MethodName)) ∈ lw_all := lw_g (lw_at lw_m12 23 rfl) rfl
theorem q2734 : (Jvm.Cond.privateMethod ({ cls := "KeyringCourtModel", name := "ready", desc := "(II)V" } : Jvm.MethodName)) ∈ lw_tbl := lw_at lw_m12 24 rfl
theorem q2735 : (Jvm.Cond.instanceMethod ({ cls := "KeyringCourtModel", name := "ready", desc := "(II)V" } : Jvm.MethodName)) ∈ lw_all := lw_g (lw_at lw_m12 25 rfl) rfl
theorem q2736 : (Jvm.Cond.code ({ cls := "KeyringCourtModel", name := "ready", desc := "(II)V" } : Jvm.MethodName) prog_14_method_25_code (3 : Nat) (Option.none : Option Jvm.ClassFile.FieldType)) ∈ lw_all := lw_g (lw_at lw_m12 26 rfl) rfl
theorem q2738 : (Jvm.Cond.instanceMethod ({ cls := "KeyringCourtModel", name := "factor", desc := "(II)I" } : Jvm.MethodName)) ∈ lw_all := lw_g (lw_at lw_m12 28 rfl) rfl
theorem q2739 : (Jvm.Cond.selects "KeyringCourtModel" ({ cls := "KeyringCourtModel", name := "factor", desc := "(II)I" } : Jvm.MethodName) ({ cls := "KeyringCourtModel", name := "factor", desc := "(II)I" } : Jvm.MethodName)) ∈ lw_all := lw_g (lw_at lw_m12 29 rfl) rfl
theorem q2740 : (Jvm.Cond.code ({ cls := "KeyringCourtModel", name := "factor", desc := "(II)I" } : Jvm.MethodName) prog_14_method_27_code (3 : Nat) (Option.some Jvm.ClassFile.FieldType.int)) ∈ lw_all := lw_g (lw_at lw_m12 30 rfl) rfl
theorem q2742 : (Jvm.Cond.instanceMethod ({ cls := "KeyringCourtModel", name := "step", desc := "(IIIII)I" } : Jvm.MethodName)) ∈ lw_all := lw_g (lw_at lw_m12 32 rfl) rfl
theorem q2743 : (Jvm.Cond.selects "KeyringCourtModel" ({ cls := "KeyringCourtModel", name := "step", desc := "(IIIII)I" } : Jvm.MethodName) ({ cls := "KeyringCourtModel", name := "step", desc := "(IIIII)I" } : Jvm.MethodName)) ∈ lw_all := lw_g (lw_at lw_m12 33 rfl) rfl
theorem q2744 : (Jvm.Cond.code ({ cls := "KeyringCourtModel", name := "step", desc := "(IIIII)I" } : Jvm.MethodName) prog_14_method_32_code (9 : Nat) (Option.some Jvm.ClassFile.FieldType.int)) ∈ lw_all := lw_g (lw_at lw_m12 34 rfl) rfl
theorem q2745 : (Jvm.Cond.methodLink "KeyringCourtModel" (297 : Nat) ({ cls := "KeyringCourtModel", name := "isNext", desc := "(I)Z" } : Jvm.MethodName)) ∈ lw_all := lw_g (lw_at lw_m12 35 rfl) rfl
theorem q2746 : (Jvm.Cond.static ({ cls := "KeyringCourtModel", name := "isNext", desc := "(I)Z" } : Jvm.MethodName)) ∈ lw_all := lw_g (lw_at lw_m12 36 rfl) rfl
theorem q2747 : (Jvm.Cond.code ({ cls := "KeyringCourtModel", name := "isNext", desc := "(I)Z" } : Jvm.MethodName) prog_14_method_31_code (1 : Nat) (Option.some Jvm.ClassFile.FieldType.boolean)) ∈ lw_all := lw_g (lw_at lw_m12 37 rfl) rfl
theorem q2749 : (Jvm.Cond.instanceMethod ({ cls := "KeyringCourtModel", name := "clear", desc := "()I" } : Jvm.MethodName)) ∈ lw_all := lw_g (lw_at lw_m12 39 rfl) rfl
theorem q2750 : (Jvm.Cond.selects "KeyringCourtModel" ({ cls := "KeyringCourtModel", name := "clear", desc := "()I" } : Jvm.MethodName) ({ cls := "KeyringCourtModel", name := "clear", desc := "()I" } : Jvm.MethodName)) ∈ lw_all := lw_g (lw_at lw_m12 40 rfl) rfl
theorem q2751 : (Jvm.Cond.code ({ cls := "KeyringCourtModel", name := "clear", desc := "()I" } : Jvm.MethodName) prog_14_method_33_code (2 : Nat) (Option.some Jvm.ClassFile.FieldType.int)) ∈ lw_all := lw_g (lw_at lw_m12 41 rfl) rfl
theorem q2753 : (Jvm.Cond.instanceMethod ({ cls := "KeyringCourtModel", name := "publish", desc := "()I" } : Jvm.MethodName)) ∈ lw_all := lw_g (lw_at lw_m12 43 rfl) rfl
theorem q2754 : (Jvm.Cond.selects "KeyringCourtModel" ({ cls := "KeyringCourtModel", name := "publish", desc := "()I" } : Jvm.MethodName) ({ cls := "KeyringCourtModel", name := "publish", desc := "()I" } : Jvm.MethodName)) ∈ lw_all := lw_g (lw_at lw_m12 44 rfl) rfl
theorem q2755 : (Jvm.Cond.code ({ cls := "KeyringCourtModel", name := "publish", desc := "()I" } : Jvm.MethodName) prog_14_method_36_code (4 : Nat) (Option.some Jvm.ClassFile.FieldType.int)) ∈ lw_all := lw_g (lw_at lw_m12 45 rfl) rfl
theorem q2756 : (Jvm.Cond.methodLink "KeyringCourtModel" (300 : Nat) ({ cls := "KeyringCourtModel", name := "isTest", desc := "(I)Z" } : Jvm.MethodName)) ∈ lw_all := lw_g (lw_at lw_m12 46 rfl) rfl
theorem q2757 : (Jvm.Cond.static ({ cls := "KeyringCourtModel", name := "isTest", desc := "(I)Z" } : Jvm.MethodName)) ∈ lw_all := lw_g (lw_at lw_m12 47 rfl) rfl
theorem q2758 : (Jvm.Cond.code ({ cls := "KeyringCourtModel", name := "isTest", desc := "(I)Z" } : Jvm.MethodName) prog_14_method_34_code (1 : Nat) (Option.some Jvm.ClassFile.FieldType.boolean)) ∈ lw_all := lw_g (lw_at lw_m12 48 rfl) rfl
theorem q2759 : (Jvm.Cond.methodLink "KeyringCourtModel" (306 : Nat) ({ cls := "KeyringCourtModel", name := "circles", desc := "(I)Z" } : Jvm.MethodName)) ∈ lw_all := lw_g (lw_at lw_m12 49 rfl) rfl
theorem q2760 : (Jvm.Cond.privateMethod ({ cls := "KeyringCourtModel", name := "circles", desc := "(I)Z" } : Jvm.MethodName)) ∈ lw_tbl := lw_at lw_m12 50 rfl
theorem q2761 : (Jvm.Cond.instanceMethod ({ cls := "KeyringCourtModel", name := "circles", desc := "(I)Z" } : Jvm.MethodName)) ∈ lw_all := lw_g (lw_at lw_m12 51 rfl) rfl
theorem q2762 : (Jvm.Cond.code ({ cls := "KeyringCourtModel", name := "circles", desc := "(I)Z" } : Jvm.MethodName) prog_14_method_35_code (8 : Nat) (Option.some Jvm.ClassFile.FieldType.boolean)) ∈ lw_all := lw_g (lw_at lw_m12 52 rfl) rfl
theorem q2764 : (Jvm.Cond.instanceMethod ({ cls := "KeyringCourtModel", name := "weakest", desc := "(I)I" } : Jvm.MethodName)) ∈ lw_all := lw_g (lw_at lw_m12 54 rfl) rfl
theorem q2765 : (Jvm.Cond.selects "KeyringCourtModel" ({ cls := "KeyringCourtModel", name := "weakest", desc := "(I)I" } : Jvm.MethodName) ({ cls := "KeyringCourtModel", name := "weakest", desc := "(I)I" } : Jvm.MethodName)) ∈ lw_all := lw_g (lw_at lw_m12 55 rfl) rfl
theorem q2766 : (Jvm.Cond.code ({ cls := "KeyringCourtModel", name := "weakest", desc := "(I)I" } : Jvm.MethodName) prog_14_method_39_code (8 : Nat) (Option.some Jvm.ClassFile.FieldType.int)) ∈ lw_all := lw_g (lw_at lw_m12 56 rfl) rfl
theorem q2767 : (Jvm.Cond.methodLink "KeyringCourtModel" (309 : Nat) ({ cls := "KeyringCourtModel", name := "levelOf", desc := "(I)I" } : Jvm.MethodName)) ∈ lw_all := lw_g (lw_at lw_m12 57 rfl) rfl
theorem q2768 : (Jvm.Cond.static ({ cls := "KeyringCourtModel", name := "levelOf", desc := "(I)I" } : Jvm.MethodName)) ∈ lw_all := lw_g (lw_at lw_m12 58 rfl) rfl
theorem q2769 : (Jvm.Cond.code ({ cls := "KeyringCourtModel", name := "levelOf", desc := "(I)I" } : Jvm.MethodName) prog_14_method_37_code (1 : Nat) (Option.some Jvm.ClassFile.FieldType.int)) ∈ lw_all := lw_g (lw_at lw_m12 59 rfl) rfl
theorem q2770 : (Jvm.Cond.methodLink "KeyringCourtModel" (312 : Nat) ({ cls := "KeyringCourtModel", name := "meet", desc := "(II)V" } : Jvm.MethodName)) ∈ lw_all := lw_g (lw_at lw_m12 60 rfl) rfl
theorem q2771 : (Jvm.Cond.privateMethod ({ cls := "KeyringCourtModel", name := "meet", desc := "(II)V" } : Jvm.MethodName)) ∈ lw_tbl := lw_at lw_m12 61 rfl
theorem q2772 : (Jvm.Cond.instanceMethod ({ cls := "KeyringCourtModel", name := "meet", desc := "(II)V" } : Jvm.MethodName)) ∈ lw_all := lw_g (lw_at lw_m12 62 rfl) rfl
theorem q2773 : (Jvm.Cond.code ({ cls := "KeyringCourtModel", name := "meet", desc := "(II)V" } : Jvm.MethodName) prog_14_method_38_code (3 : Nat) (Option.none : Option Jvm.ClassFile.FieldType)) ∈ lw_all := lw_g (lw_at lw_m12 63 rfl) rfl
theorem q2775 : (Jvm.Cond.instanceMethod ({ cls := "KeyringCourtModel", name := "points", desc := "(IIZ)I" } : Jvm.MethodName)) ∈ lw_all := lw_g (lw_at lw_m12 65 rfl) rfl
theorem q2776 : (Jvm.Cond.selects "KeyringCourtModel" ({ cls := "KeyringCourtModel", name := "points", desc := "(IIZ)I" } : Jvm.MethodName) ({ cls := "KeyringCourtModel", name := "points", desc := "(IIZ)I" } : Jvm.MethodName)) ∈ lw_all := lw_g (lw_at lw_m12 66 rfl) rfl
theorem q2777 : (Jvm.Cond.code ({ cls := "KeyringCourtModel", name := "points", desc := "(IIZ)I" } : Jvm.MethodName) prog_14_method_43_code (5 : Nat) (Option.some Jvm.ClassFile.FieldType.int)) ∈ lw_all := lw_g (lw_at lw_m12 67 rfl) rfl
theorem q2779 : (Jvm.Cond.instanceMethod ({ cls := "KeyringCourtModel", name := "begin", desc := "(III)I" } : Jvm.MethodName)) ∈ lw_all := lw_g (lw_at lw_m12 69 rfl) rfl
theorem q2780 : (Jvm.Cond.selects "KeyringCourtModel" ({ cls := "KeyringCourtModel", name := "begin", desc := "(III)I" } : Jvm.MethodName) ({ cls := "KeyringCourtModel", name := "begin", desc := "(III)I" } : Jvm.MethodName)) ∈ lw_all := lw_g (lw_at lw_m12 70 rfl) rfl
theorem q2781 : (Jvm.Cond.code ({ cls := "KeyringCourtModel", name := "begin", desc := "(III)I" } : Jvm.MethodName) prog_14_method_49_code (7 : Nat) (Option.some Jvm.ClassFile.FieldType.int)) ∈ lw_all := lw_g (lw_at lw_m12 71 rfl) rfl
theorem q2782 : (Jvm.Cond.methodLink "KeyringCourtModel" (338 : Nat) ({ cls := "KeyringCourtModel", name := "go", desc := "(II)V" } : Jvm.MethodName)) ∈ lw_all := lw_g (lw_at lw_m12 72 rfl) rfl
theorem q2783 : (Jvm.Cond.privateMethod ({ cls := "KeyringCourtModel", name := "go", desc := "(II)V" } : Jvm.MethodName)) ∈ lw_tbl := lw_at lw_m12 73 rfl
theorem q2784 : (Jvm.Cond.instanceMethod ({ cls := "KeyringCourtModel", name := "go", desc := "(II)V" } : Jvm.MethodName)) ∈ lw_all := lw_g (lw_at lw_m12 74 rfl) rfl
theorem q2785 : (Jvm.Cond.code ({ cls := "KeyringCourtModel", name := "go", desc := "(II)V" } : Jvm.MethodName) prog_14_method_48_code (5 : Nat) (Option.none : Option Jvm.ClassFile.FieldType)) ∈ lw_all := lw_g (lw_at lw_m12 75 rfl) rfl
theorem q2786 : (Jvm.Cond.methodLink "KeyringCourtModel" (332 : Nat) ({ cls := "KeyringCourtModel", name := "holds", desc := "(II)Z" } : Jvm.MethodName)) ∈ lw_all := lw_g (lw_at lw_m12 76 rfl) rfl
theorem q2787 : (Jvm.Cond.privateMethod ({ cls := "KeyringCourtModel", name := "holds", desc := "(II)Z" } : Jvm.MethodName)) ∈ lw_tbl := lw_at lw_m12 77 rfl
theorem q2788 : (Jvm.Cond.instanceMethod ({ cls := "KeyringCourtModel", name := "holds", desc := "(II)Z" } : Jvm.MethodName)) ∈ lw_all := lw_g (lw_at lw_m12 78 rfl) rfl
theorem q2789 : (Jvm.Cond.code ({ cls := "KeyringCourtModel", name := "holds", desc := "(II)Z" } : Jvm.MethodName) prog_14_method_45_code (4 : Nat) (Option.some Jvm.ClassFile.FieldType.boolean)) ∈ lw_all := lw_g (lw_at lw_m12 79 rfl) rfl
theorem q2790 : (Jvm.Cond.methodLink "KeyringCourtModel" (322 : Nat) ({ cls := "KeyringCourtModel", name := "riskOf", desc := "(IZ)I" } : Jvm.MethodName)) ∈ lw_all := lw_g (lw_at lw_m12 80 rfl) rfl
theorem q2791 : (Jvm.Cond.privateMethod ({ cls := "KeyringCourtModel", name := "riskOf", desc := "(IZ)I" } : Jvm.MethodName)) ∈ lw_tbl := lw_at lw_m12 81 rfl
theorem q2792 : (Jvm.Cond.instanceMethod ({ cls := "KeyringCourtModel", name := "riskOf", desc := "(IZ)I" } : Jvm.MethodName)) ∈ lw_all := lw_g (lw_at lw_m12 82 rfl) rfl
theorem q2793 : (Jvm.Cond.code ({ cls := "KeyringCourtModel", name := "riskOf", desc := "(IZ)I" } : Jvm.MethodName) prog_14_method_42_code (5 : Nat) (Option.some Jvm.ClassFile.FieldType.int)) ∈ lw_all := lw_g (lw_at lw_m12 83 rfl) rfl
theorem q2794 : (Jvm.Cond.methodLink "KeyringCourtModel" (315 : Nat) ({ cls := "KeyringCourtModel", name := "wrongs", desc := "(I)I" } : Jvm.MethodName)) ∈ lw_all := lw_g (lw_at lw_m12 84 rfl) rfl
theorem q2795 : (Jvm.Cond.privateMethod ({ cls := "KeyringCourtModel", name := "wrongs", desc := "(I)I" } : Jvm.MethodName)) ∈ lw_tbl := lw_at lw_m12 85 rfl
theorem q2796 : (Jvm.Cond.instanceMethod ({ cls := "KeyringCourtModel", name := "wrongs", desc := "(I)I" } : Jvm.MethodName)) ∈ lw_all := lw_g (lw_at lw_m12 86 rfl) rfl
theorem q2797 : (Jvm.Cond.code ({ cls := "KeyringCourtModel", name := "wrongs", desc := "(I)I" } : Jvm.MethodName) prog_14_method_40_code (4 : Nat) (Option.some Jvm.ClassFile.FieldType.int)) ∈ lw_all := lw_g (lw_at lw_m12 87 rfl) rfl
theorem q2798 : (Jvm.Cond.methodLink "KeyringCourtModel" (318 : Nat) ({ cls := "KeyringCourtModel", name := "pointsOf", desc := "(IZ)I" } : Jvm.MethodName)) ∈ lw_all := lw_g (lw_at lw_m12 88 rfl) rfl
theorem q2799 : (Jvm.Cond.privateMethod ({ cls := "KeyringCourtModel", name := "pointsOf", desc := "(IZ)I" } : Jvm.MethodName)) ∈ lw_tbl := lw_at lw_m12 89 rfl
theorem q2800 : (Jvm.Cond.instanceMethod ({ cls := "KeyringCourtModel", name := "pointsOf", desc := "(IZ)I" } : Jvm.MethodName)) ∈ lw_all := lw_g (lw_at lw_m12 90 rfl) rfl
theorem q2801 : (Jvm.Cond.code ({ cls := "KeyringCourtModel", name := "pointsOf", desc := "(IZ)I" } : Jvm.MethodName) prog_14_method_41_code (3 : Nat) (Option.some Jvm.ClassFile.FieldType.int)) ∈ lw_all := lw_g (lw_at lw_m12 91 rfl) rfl
theorem q2802 : (Jvm.Cond.methodLink "KeyringCourtModel" (325 : Nat) ({ cls := "KeyringCourtModel", name := "shownIn", desc := "(I)I" } : Jvm.MethodName)) ∈ lw_all := lw_g (lw_at lw_m12 92 rfl) rfl
theorem q2803 : (Jvm.Cond.privateMethod ({ cls := "KeyringCourtModel", name := "shownIn", desc := "(I)I" } : Jvm.MethodName)) ∈ lw_tbl := lw_at lw_m12 93 rfl
theorem q2804 : (Jvm.Cond.instanceMethod ({ cls := "KeyringCourtModel", name := "shownIn", desc := "(I)I" } : Jvm.MethodName)) ∈ lw_all := lw_g (lw_at lw_m12 94 rfl) rfl
theorem q2805 : (Jvm.Cond.code ({ cls := "KeyringCourtModel", name := "shownIn", desc := "(I)I" } : Jvm.MethodName) prog_14_method_44_code (4 : Nat) (Option.some Jvm.ClassFile.FieldType.int)) ∈ lw_all := lw_g (lw_at lw_m12 95 rfl) rfl
theorem q2806 : (Jvm.Cond.methodLink "KeyringCourtModel" (335 : Nat) ({ cls := "KeyringCourtModel", name := "grant", desc := "(I)V" } : Jvm.MethodName)) ∈ lw_all := lw_g (lw_at lw_m12 96 rfl) rfl
theorem q2807 : (Jvm.Cond.privateMethod ({ cls := "KeyringCourtModel", name := "grant", desc := "(I)V" } : Jvm.MethodName)) ∈ lw_tbl := lw_at lw_m12 97 rfl
theorem q2808 : (Jvm.Cond.instanceMethod ({ cls := "KeyringCourtModel", name := "grant", desc := "(I)V" } : Jvm.MethodName)) ∈ lw_all := lw_g (lw_at lw_m12 98 rfl) rfl
theorem q2809 : (Jvm.Cond.code ({ cls := "KeyringCourtModel", name := "grant", desc := "(I)V" } : Jvm.MethodName) prog_14_method_47_code (4 : Nat) (Option.none : Option Jvm.ClassFile.FieldType)) ∈ lw_all := lw_g (lw_at lw_m12 99 rfl) rfl
theorem q2810 : (Jvm.Cond.methodLink "KeyringCourtModel" (328 : Nat) ({ cls := "KeyringCourtModel", name := "newSession", desc := "(II)I" } : Jvm.MethodName)) ∈ lw_all := lw_g (lw_at lw_m12 100 rfl) rfl
theorem q2811 : (Jvm.Cond.privateMethod ({ cls := "KeyringCourtModel", name := "newSession", desc := "(II)I" } : Jvm.MethodName)) ∈ lw_tbl := lw_at lw_m12 101 rfl
theorem q2812 : (Jvm.Cond.instanceMethod ({ cls := "KeyringCourtModel", name := "newSession", desc := "(II)I" } : Jvm.MethodName)) ∈ lw_all := lw_g (lw_at lw_m12 102 rfl) rfl
theorem q2813 : (Jvm.Cond.code ({ cls := "KeyringCourtModel", name := "newSession", desc := "(II)I" } : Jvm.MethodName) prog_14_method_46_code (5 : Nat) (Option.some Jvm.ClassFile.FieldType.int)) ∈ lw_all := lw_g (lw_at lw_m12 103 rfl) rfl
theorem q2815 : (Jvm.Cond.instanceMethod ({ cls := "KeyringCourtModel", name := "answer", desc := "(IZI)I" } : Jvm.MethodName)) ∈ lw_all := lw_g (lw_at lw_m12 105 rfl) rfl
theorem q2816 : (Jvm.Cond.selects "KeyringCourtModel" ({ cls := "KeyringCourtModel", name := "answer", desc := "(IZI)I" } : Jvm.MethodName) ({ cls := "KeyringCourtModel", name := "answer", desc := "(IZI)I" } : Jvm.MethodName)) ∈ lw_all := lw_g (lw_at lw_m12 106 rfl) rfl
theorem q2817 : (Jvm.Cond.code ({ cls := "KeyringCourtModel", name := "answer", desc := "(IZI)I" } : Jvm.MethodName) prog_14_method_50_code (6 : Nat) (Option.some Jvm.ClassFile.FieldType.int)) ∈ lw_all := lw_g (lw_at lw_m12 107 rfl) rfl
theorem q2818 : (Jvm.Cond.methodLink "KeyringCourtModel" (341 : Nat) ({ cls := "KeyringCourtModel", name := "isAttempt", desc := "(I)Z" } : Jvm.MethodName)) ∈ lw_all := lw_g (lw_at lw_m12 108 rfl) rfl
theorem q2819 : (Jvm.Cond.privateMethod ({ cls := "KeyringCourtModel", name := "isAttempt", desc := "(I)Z" } : Jvm.MethodName)) ∈ lw_tbl := lw_at lw_m12 109 rfl
theorem q2820 : (Jvm.Cond.instanceMethod ({ cls := "KeyringCourtModel", name := "isAttempt", desc := "(I)Z" } : Jvm.MethodName)) ∈ lw_all := lw_g (lw_at lw_m12 110 rfl) rfl
theorem q2821 : (Jvm.Cond.code ({ cls := "KeyringCourtModel", name := "isAttempt", desc := "(I)Z" } : Jvm.MethodName) prog_14_method_10_code (2 : Nat) (Option.some Jvm.ClassFile.FieldType.boolean)) ∈ lw_all := lw_g (lw_at lw_m12 111 rfl) rfl
theorem q2822 : (Jvm.Cond.methodLink "KeyringCourtModel" (344 : Nat) ({ cls := "KeyringCourtModel", name := "mayAll", desc := "(ZZZ)Z" } : Jvm.MethodName)) ∈ lw_all := lw_g (lw_at lw_m12 112 rfl) rfl
theorem q2823 : (Jvm.Cond.privateMethod ({ cls := "KeyringCourtModel", name := "mayAll", desc := "(ZZZ)Z" } : Jvm.MethodName)) ∈ lw_tbl := lw_at lw_m12 113 rfl
theorem q2824 : (Jvm.Cond.instanceMethod ({ cls := "KeyringCourtModel", name := "mayAll", desc := "(ZZZ)Z" } : Jvm.MethodName)) ∈ lw_all := lw_g (lw_at lw_m12 114 rfl) rfl
theorem q2825 : (Jvm.Cond.code ({ cls := "KeyringCourtModel", name := "mayAll", desc := "(ZZZ)Z" } : Jvm.MethodName) prog_14_method_5_code (4 : Nat) (Option.some Jvm.ClassFile.FieldType.boolean)) ∈ lw_all := lw_g (lw_at lw_m12 115 rfl) rfl
theorem q2826 : (Jvm.Cond.methodLink "KeyringCourtModel" (348 : Nat) ({ cls := "KeyringCourtModel", name := "answers", desc := "(IIZI)Z" } : Jvm.MethodName)) ∈ lw_all := lw_g (lw_at lw_m12 116 rfl) rfl
theorem q2827 : (Jvm.Cond.privateMethod ({ cls := "KeyringCourtModel", name := "answers", desc := "(IIZI)Z" } : Jvm.MethodName)) ∈ lw_tbl := lw_at lw_m12 117 rfl
theorem q2828 : (Jvm.Cond.instanceMethod ({ cls := "KeyringCourtModel", name := "answers", desc := "(IIZI)Z" } : Jvm.MethodName)) ∈ lw_all := lw_g (lw_at lw_m12 118 rfl) rfl
theorem q2829 : (Jvm.Cond.code ({ cls := "KeyringCourtModel", name := "answers", desc := "(IIZI)Z" } : Jvm.MethodName) prog_14_method_30_code (7 : Nat) (Option.some Jvm.ClassFile.FieldType.boolean)) ∈ lw_all := lw_g (lw_at lw_m12 119 rfl) rfl
theorem q2830 : (Jvm.Cond.methodLink "KeyringCourtModel" (294 : Nat) ({ cls := "KeyringCourtModel", name := "suspend", desc := "(II)V" } : Jvm.MethodName)) ∈ lw_all := lw_g (lw_at lw_m12 120 rfl) rfl
theorem q2831 : (Jvm.Cond.privateMethod ({ cls := "KeyringCourtModel", name := "suspend", desc := "(II)V" } : Jvm.MethodName)) ∈ lw_tbl := lw_at lw_m12 121 rfl
theorem q2832 : (Jvm.Cond.instanceMethod ({ cls := "KeyringCourtModel", name := "suspend", desc := "(II)V" } : Jvm.MethodName)) ∈ lw_all := lw_g (lw_at lw_m12 122 rfl) rfl
theorem q2833 : (Jvm.Cond.code ({ cls := "KeyringCourtModel", name := "suspend", desc := "(II)V" } : Jvm.MethodName) prog_14_method_29_code (3 : Nat) (Option.none : Option Jvm.ClassFile.FieldType)) ∈ lw_all := lw_g (lw_at lw_m12 123 rfl) rfl
theorem q2835 : (Jvm.Cond.instanceMethod ({ cls := "KeyringCourtModel", name := "state", desc := "(I)I" } : Jvm.MethodName)) ∈ lw_all := lw_g (lw_at lw_m12 125 rfl) rfl
theorem q2836 : (Jvm.Cond.selects "KeyringCourtModel" ({ cls := "KeyringCourtModel", name := "state", desc := "(I)I" } : Jvm.MethodName) ({ cls := "KeyringCourtModel", name := "state", desc := "(I)I" } : Jvm.MethodName)) ∈ lw_all := lw_g (lw_at lw_m12 126 rfl) rfl
theorem q2837 : (Jvm.Cond.code ({ cls := "KeyringCourtModel", name := "state", desc := "(I)I" } : Jvm.MethodName) prog_14_method_51_code (2 : Nat) (Option.some Jvm.ClassFile.FieldType.int)) ∈ lw_all := lw_g (lw_at lw_m12 127 rfl) rfl
theorem q2839 : (Jvm.Cond.instanceMethod ({ cls := "KeyringCourtModel", name := "asked", desc := "(I)I" } : Jvm.MethodName)) ∈ lw_all := lw_g (lw_at lw_m12 129 rfl) rfl
theorem q2840 : (Jvm.Cond.selects "KeyringCourtModel" ({ cls := "KeyringCourtModel", name := "asked", desc := "(I)I" } : Jvm.MethodName) ({ cls := "KeyringCourtModel", name := "asked", desc := "(I)I" } : Jvm.MethodName)) ∈ lw_all := lw_g (lw_at lw_m12 130 rfl) rfl
theorem q2841 : (Jvm.Cond.code ({ cls := "KeyringCourtModel", name := "asked", desc := "(I)I" } : Jvm.MethodName) prog_14_method_52_code (2 : Nat) (Option.some Jvm.ClassFile.FieldType.int)) ∈ lw_all := lw_g (lw_at lw_m12 131 rfl) rfl
theorem q2843 : (Jvm.Cond.instanceMethod ({ cls := "KeyringCourtModel", name := "sessionOf", desc := "(I)I" } : Jvm.MethodName)) ∈ lw_all := lw_g (lw_at lw_m12 133 rfl) rfl
theorem q2844 : (Jvm.Cond.selects "KeyringCourtModel" ({ cls := "KeyringCourtModel", name := "sessionOf", desc := "(I)I" } : Jvm.MethodName) ({ cls := "KeyringCourtModel", name := "sessionOf", desc := "(I)I" } : Jvm.MethodName)) ∈ lw_all := lw_g (lw_at lw_m12 134 rfl) rfl
theorem q2845 : (Jvm.Cond.code ({ cls := "KeyringCourtModel", name := "sessionOf", desc := "(I)I" } : Jvm.MethodName) prog_14_method_53_code (2 : Nat) (Option.some Jvm.ClassFile.FieldType.int)) ∈ lw_all := lw_g (lw_at lw_m12 135 rfl) rfl
theorem q2847 : (Jvm.Cond.instanceMethod ({ cls := "KeyringCourtModel", name := "risk", desc := "(I)I" } : Jvm.MethodName)) ∈ lw_all := lw_g (lw_at lw_m12 137 rfl) rfl
theorem q2848 : (Jvm.Cond.selects "KeyringCourtModel" ({ cls := "KeyringCourtModel", name := "risk", desc := "(I)I" } : Jvm.MethodName) ({ cls := "KeyringCourtModel", name := "risk", desc := "(I)I" } : Jvm.MethodName)) ∈ lw_all := lw_g (lw_at lw_m12 138 rfl) rfl
theorem q2849 : (Jvm.Cond.code ({ cls := "KeyringCourtModel", name := "risk", desc := "(I)I" } : Jvm.MethodName) prog_14_method_54_code (2 : Nat) (Option.some Jvm.ClassFile.FieldType.int)) ∈ lw_all := lw_g (lw_at lw_m12 139 rfl) rfl
theorem q2851 : (Jvm.Cond.instanceMethod ({ cls := "KeyringCourtModel", name := "trialRisk", desc := "(I)I" } : Jvm.MethodName)) ∈ lw_all := lw_g (lw_at lw_m12 141 rfl) rfl
theorem q2852 : (Jvm.Cond.selects "KeyringCourtModel" ({ cls := "KeyringCourtModel", name := "trialRisk", desc := "(I)I" } : Jvm.MethodName) ({ cls := "KeyringCourtModel", name := "trialRisk", desc := "(I)I" } : Jvm.MethodName)) ∈ lw_all := lw_g (lw_at lw_m12 142 rfl) rfl
theorem q2853 : (Jvm.Cond.code ({ cls := "KeyringCourtModel", name := "trialRisk", desc := "(I)I" } : Jvm.MethodName) prog_14_method_55_code (2 : Nat) (Option.some Jvm.ClassFile.FieldType.int)) ∈ lw_all := lw_g (lw_at lw_m12 143 rfl) rfl
theorem q2855 : (Jvm.Cond.instanceMethod ({ cls := "KeyringCourtModel", name := "sessions", desc := "()I" } : Jvm.MethodName)) ∈ lw_all := lw_g (lw_at lw_m12 145 rfl) rfl
theorem q2856 : (Jvm.Cond.selects "KeyringCourtModel" ({ cls := "KeyringCourtModel", name := "sessions", desc := "()I" } : Jvm.MethodName) ({ cls := "KeyringCourtModel", name := "sessions", desc := "()I" } : Jvm.MethodName)) ∈ lw_all := lw_g (lw_at lw_m12 146 rfl) rfl
theorem q2857 : (Jvm.Cond.code ({ cls := "KeyringCourtModel", name := "sessions", desc := "()I" } : Jvm.MethodName) prog_14_method_56_code (1 : Nat) (Option.some Jvm.ClassFile.FieldType.int)) ∈ lw_all := lw_g (lw_at lw_m12 147 rfl) rfl
theorem q2859 : (Jvm.Cond.instanceMethod ({ cls := "KeyringCourtModel", name := "isLive", desc := "(I)Z" } : Jvm.MethodName)) ∈ lw_all := lw_g (lw_at lw_m12 149 rfl) rfl
theorem q2860 : (Jvm.Cond.selects "KeyringCourtModel" ({ cls := "KeyringCourtModel", name := "isLive", desc := "(I)Z" } : Jvm.MethodName) ({ cls := "KeyringCourtModel", name := "isLive", desc := "(I)Z" } : Jvm.MethodName)) ∈ lw_all := lw_g (lw_at lw_m12 150 rfl) rfl
theorem q2861 : (Jvm.Cond.code ({ cls := "KeyringCourtModel", name := "isLive", desc := "(I)Z" } : Jvm.MethodName) prog_14_method_57_code (2 : Nat) (Option.some Jvm.ClassFile.FieldType.boolean)) ∈ lw_all := lw_g (lw_at lw_m12 151 rfl) rfl
theorem q2862 : (Jvm.Cond.methodLink "KeyringCourtModel" (352 : Nat) ({ cls := "KeyringCourtModel", name := "isSession", desc := "(I)Z" } : Jvm.MethodName)) ∈ lw_all := lw_g (lw_at lw_m12 152 rfl) rfl
theorem q2863 : (Jvm.Cond.privateMethod ({ cls := "KeyringCourtModel", name := "isSession", desc := "(I)Z" } : Jvm.MethodName)) ∈ lw_tbl := lw_at lw_m12 153 rfl
theorem q2864 : (Jvm.Cond.instanceMethod ({ cls := "KeyringCourtModel", name := "isSession", desc := "(I)Z" } : Jvm.MethodName)) ∈ lw_all := lw_g (lw_at lw_m12 154 rfl) rfl
theorem q2865 : (Jvm.Cond.code ({ cls := "KeyringCourtModel", name := "isSession", desc := "(I)Z" } : Jvm.MethodName) prog_14_method_11_code (2 : Nat) (Option.some Jvm.ClassFile.FieldType.boolean)) ∈ lw_all := lw_g (lw_at lw_m12 155 rfl) rfl
theorem q2867 : (Jvm.Cond.instanceMethod ({ cls := "KeyringCourtModel", name := "isLiveByAudit", desc := "(I)Z" } : Jvm.MethodName)) ∈ lw_all := lw_g (lw_at lw_m12 157 rfl) rfl
theorem q2868 : (Jvm.Cond.selects "KeyringCourtModel" ({ cls := "KeyringCourtModel", name := "isLiveByAudit", desc := "(I)Z" } : Jvm.MethodName) ({ cls := "KeyringCourtModel", name := "isLiveByAudit", desc := "(I)Z" } : Jvm.MethodName)) ∈ lw_all := lw_g (lw_at lw_m12 158 rfl) rfl
theorem q2869 : (Jvm.Cond.code ({ cls := "KeyringCourtModel", name := "isLiveByAudit", desc := "(I)Z" } : Jvm.MethodName) prog_14_method_58_code (4 : Nat) (Option.some Jvm.ClassFile.FieldType.boolean)) ∈ lw_all := lw_g (lw_at lw_m12 159 rfl) rfl
theorem q2871 : (Jvm.Cond.instanceMethod ({ cls := "KeyringCourtModel", name := "level", desc := "(I)I" } : Jvm.MethodName)) ∈ lw_all := lw_g (lw_at lw_m12 161 rfl) rfl
theorem q2872 : (Jvm.Cond.selects "KeyringCourtModel" ({ cls := "KeyringCourtModel", name := "level", desc := "(I)I" } : Jvm.MethodName) ({ cls := "KeyringCourtModel", name := "level", desc := "(I)I" } : Jvm.MethodName)) ∈ lw_all := lw_g (lw_at lw_m12 162 rfl) rfl
theorem q2873 : (Jvm.Cond.code ({ cls := "KeyringCourtModel", name := "level", desc := "(I)I" } : Jvm.MethodName) prog_14_method_60_code (2 : Nat) (Option.some Jvm.ClassFile.FieldType.int)) ∈ lw_all := lw_g (lw_at lw_m12 163 rfl) rfl
theorem q2874 : (Jvm.Cond.methodLink "KeyringCourtModel" (355 : Nat) ({ cls := "KeyringCourtModel", name := "levelNow", desc := "(I)I" } : Jvm.MethodName)) ∈ lw_all := lw_g (lw_at lw_m12 164 rfl) rfl
theorem q2875 : (Jvm.Cond.privateMethod ({ cls := "KeyringCourtModel", name := "levelNow", desc := "(I)I" } : Jvm.MethodName)) ∈ lw_tbl := lw_at lw_m12 165 rfl
theorem q2876 : (Jvm.Cond.instanceMethod ({ cls := "KeyringCourtModel", name := "levelNow", desc := "(I)I" } : Jvm.MethodName)) ∈ lw_all := lw_g (lw_at lw_m12 166 rfl) rfl
theorem q2877 : (Jvm.Cond.code ({ cls := "KeyringCourtModel", name := "levelNow", desc := "(I)I" } : Jvm.MethodName) prog_14_method_59_code (5 : Nat) (Option.some Jvm.ClassFile.FieldType.int)) ∈ lw_all := lw_g (lw_at lw_m12 167 rfl) rfl
theorem q2879 : (Jvm.Cond.instanceMethod ({ cls := "KeyringCourtModel", name := "stepUp", desc := "(IIZI)I" } : Jvm.MethodName)) ∈ lw_all := lw_g (lw_at lw_m12 169 rfl) rfl
theorem q2880 : (Jvm.Cond.selects "KeyringCourtModel" ({ cls := "KeyringCourtModel", name := "stepUp", desc := "(IIZI)I" } : Jvm.MethodName) ({ cls := "KeyringCourtModel", name := "stepUp", desc := "(IIZI)I" } : Jvm.MethodName)) ∈ lw_all := lw_g (lw_at lw_m12 170 rfl) rfl
theorem q2881 : (Jvm.Cond.code ({ cls := "KeyringCourtModel", name := "stepUp", desc := "(IIZI)I" } : Jvm.MethodName) prog_14_method_61_code (6 : Nat) (Option.some Jvm.ClassFile.FieldType.int)) ∈ lw_all := lw_g (lw_at lw_m12 171 rfl) rfl
theorem q2883 : (Jvm.Cond.instanceMethod ({ cls := "KeyringCourtModel", name := "signOut", desc := "(I)I" } : Jvm.MethodName)) ∈ lw_all := lw_g (lw_at lw_m12 173 rfl) rfl
theorem q2884 : (Jvm.Cond.selects "KeyringCourtModel" ({ cls := "KeyringCourtModel", name := "signOut", desc := "(I)I" } : Jvm.MethodName) ({ cls := "KeyringCourtModel", name := "signOut", desc := "(I)I" } : Jvm.MethodName)) ∈ lw_all := lw_g (lw_at lw_m12 174 rfl) rfl
theorem q2885 : (Jvm.Cond.code ({ cls := "KeyringCourtModel", name := "signOut", desc := "(I)I" } : Jvm.MethodName) prog_14_method_62_code (3 : Nat) (Option.some Jvm.ClassFile.FieldType.int)) ∈ lw_all := lw_g (lw_at lw_m12 175 rfl) rfl
theorem q2887 : (Jvm.Cond.instanceMethod ({ cls := "KeyringCourtModel", name := "helper", desc := "(I)Z" } : Jvm.MethodName)) ∈ lw_all := lw_g (lw_at lw_m12 177 rfl) rfl
theorem q2888 : (Jvm.Cond.selects "KeyringCourtModel" ({ cls := "KeyringCourtModel", name := "helper", desc := "(I)Z" } : Jvm.MethodName) ({ cls := "KeyringCourtModel", name := "helper", desc := "(I)Z" } : Jvm.MethodName)) ∈ lw_all := lw_g (lw_at lw_m12 178 rfl) rfl
theorem q2889 : (Jvm.Cond.code ({ cls := "KeyringCourtModel", name := "helper", desc := "(I)Z" } : Jvm.MethodName) prog_14_method_63_code (2 : Nat) (Option.some Jvm.ClassFile.FieldType.boolean)) ∈ lw_all := lw_g (lw_at lw_m12 179 rfl) rfl
theorem q2891 : (Jvm.Cond.instanceMethod ({ cls := "KeyringCourtModel", name := "act", desc := "(II)I" } : Jvm.MethodName)) ∈ lw_all := lw_g (lw_at lw_m12 181 rfl) rfl
theorem q2892 : (Jvm.Cond.selects "KeyringCourtModel" ({ cls := "KeyringCourtModel", name := "act", desc := "(II)I" } : Jvm.MethodName) ({ cls := "KeyringCourtModel", name := "act", desc := "(II)I" } : Jvm.MethodName)) ∈ lw_all := lw_g (lw_at lw_m12 182 rfl) rfl
theorem q2893 : (Jvm.Cond.code ({ cls := "KeyringCourtModel", name := "act", desc := "(II)I" } : Jvm.MethodName) prog_14_method_64_code (7 : Nat) (Option.some Jvm.ClassFile.FieldType.int)) ∈ lw_all := lw_g (lw_at lw_m12 183 rfl) rfl
theorem q2895 : (Jvm.Cond.instanceMethod ({ cls := "KeyringCourtModel", name := "consent", desc := "(III)I" } : Jvm.MethodName)) ∈ lw_all := lw_g (lw_at lw_m12 185 rfl) rfl
theorem q2896 : (Jvm.Cond.selects "KeyringCourtModel" ({ cls := "KeyringCourtModel", name := "consent", desc := "(III)I" } : Jvm.MethodName) ({ cls := "KeyringCourtModel", name := "consent", desc := "(III)I" } : Jvm.MethodName)) ∈ lw_all := lw_g (lw_at lw_m12 186 rfl) rfl
theorem q2897 : (Jvm.Cond.code ({ cls := "KeyringCourtModel", name := "consent", desc := "(III)I" } : Jvm.MethodName) prog_14_method_65_code (6 : Nat) (Option.some Jvm.ClassFile.FieldType.int)) ∈ lw_all := lw_g (lw_at lw_m12 187 rfl) rfl
theorem q2898 : (Jvm.Cond.methodLink "KeyringCourtModel" (358 : Nat) ({ cls := "KeyringCourtModel", name := "isService", desc := "(I)Z" } : Jvm.MethodName)) ∈ lw_all := lw_g (lw_at lw_m12 188 rfl) rfl
theorem q2899 : (Jvm.Cond.static ({ cls := "KeyringCourtModel", name := "isService", desc := "(I)Z" } : Jvm.MethodName)) ∈ lw_all := lw_g (lw_at lw_m12 189 rfl) rfl
theorem q2900 : (Jvm.Cond.code ({ cls := "KeyringCourtModel", name := "isService", desc := "(I)Z" } : Jvm.MethodName) prog_14_method_9_code (1 : Nat) (Option.some Jvm.ClassFile.FieldType.boolean)) ∈ lw_all := lw_g (lw_at lw_m12 190 rfl) rfl
theorem q2902 : (Jvm.Cond.instanceMethod ({ cls := "KeyringCourtModel", name := "withdraw", desc := "(II)I" } : Jvm.MethodName)) ∈ lw_all := lw_g (lw_at lw_m12 192 rfl) rfl
theorem q2903 : (Jvm.Cond.selects "KeyringCourtModel" ({ cls := "KeyringCourtModel", name := "withdraw", desc := "(II)I" } : Jvm.MethodName) ({ cls := "KeyringCourtModel", name := "withdraw", desc := "(II)I" } : Jvm.MethodName)) ∈ lw_all := lw_g (lw_at lw_m12 193 rfl) rfl
theorem q2904 : (Jvm.Cond.code ({ cls := "KeyringCourtModel", name := "withdraw", desc := "(II)I" } : Jvm.MethodName) prog_14_method_66_code (6 : Nat) (Option.some Jvm.ClassFile.FieldType.int)) ∈ lw_all := lw_g (lw_at lw_m12 194 rfl) rfl
theorem q2906 : (Jvm.Cond.instanceMethod ({ cls := "KeyringCourtModel", name := "need", desc := "(II)I" } : Jvm.MethodName)) ∈ lw_all := lw_g (lw_at lw_m12 196 rfl) rfl
theorem q2907 : (Jvm.Cond.selects "KeyringCourtModel" ({ cls := "KeyringCourtModel", name := "need", desc := "(II)I" } : Jvm.MethodName) ({ cls := "KeyringCourtModel", name := "need", desc := "(II)I" } : Jvm.MethodName)) ∈ lw_all := lw_g (lw_at lw_m12 197 rfl) rfl
theorem q2908 : (Jvm.Cond.code ({ cls := "KeyringCourtModel", name := "need", desc := "(II)I" } : Jvm.MethodName) prog_14_method_67_code (4 : Nat) (Option.some Jvm.ClassFile.FieldType.int)) ∈ lw_all := lw_g (lw_at lw_m12 198 rfl) rfl
theorem q2910 : (Jvm.Cond.instanceMethod ({ cls := "KeyringCourtModel", name := "authorize", desc := "(IIII)I" } : Jvm.MethodName)) ∈ lw_all := lw_g (lw_at lw_m12 200 rfl) rfl
theorem q2911 : (Jvm.Cond.selects "KeyringCourtModel" ({ cls := "KeyringCourtModel", name := "authorize", desc := "(IIII)I" } : Jvm.MethodName) ({ cls := "KeyringCourtModel", name := "authorize", desc := "(IIII)I" } : Jvm.MethodName)) ∈ lw_all := lw_g (lw_at lw_m12 201 rfl) rfl
theorem q2912 : (Jvm.Cond.code ({ cls := "KeyringCourtModel", name := "authorize", desc := "(IIII)I" } : Jvm.MethodName) prog_14_method_68_code (7 : Nat) (Option.some Jvm.ClassFile.FieldType.int)) ∈ lw_all := lw_g (lw_at lw_m12 202 rfl) rfl
theorem q2914 : (Jvm.Cond.instanceMethod ({ cls := "KeyringCourtModel", name := "redeem", desc := "(I)I" } : Jvm.MethodName)) ∈ lw_all := lw_g (lw_at lw_m12 204 rfl) rfl
theorem q2915 : (Jvm.Cond.selects "KeyringCourtModel" ({ cls := "KeyringCourtModel", name := "redeem", desc := "(I)I" } : Jvm.MethodName) ({ cls := "KeyringCourtModel", name := "redeem", desc := "(I)I" } : Jvm.MethodName)) ∈ lw_all := lw_g (lw_at lw_m12 205 rfl) rfl
theorem q2916 : (Jvm.Cond.code ({ cls := "KeyringCourtModel", name := "redeem", desc := "(I)I" } : Jvm.MethodName) prog_14_method_71_code (5 : Nat) (Option.some Jvm.ClassFile.FieldType.int)) ∈ lw_all := lw_g (lw_at lw_m12 206 rfl) rfl
theorem q2917 : (Jvm.Cond.methodLink "KeyringCourtModel" (368 : Nat) ({ cls := "KeyringCourtModel", name := "firstToken", desc := "(I)V" } : Jvm.MethodName)) ∈ lw_all := lw_g (lw_at lw_m12 207 rfl) rfl
theorem q2918 : (Jvm.Cond.privateMethod ({ cls := "KeyringCourtModel", name := "firstToken", desc := "(I)V" } : Jvm.MethodName)) ∈ lw_tbl := lw_at lw_m12 208 rfl
theorem q2919 : (Jvm.Cond.instanceMethod ({ cls := "KeyringCourtModel", name := "firstToken", desc := "(I)V" } : Jvm.MethodName)) ∈ lw_all := lw_g (lw_at lw_m12 209 rfl) rfl
theorem q2920 : (Jvm.Cond.code ({ cls := "KeyringCourtModel", name := "firstToken", desc := "(I)V" } : Jvm.MethodName) prog_14_method_70_code (3 : Nat) (Option.none : Option Jvm.ClassFile.FieldType)) ∈ lw_all := lw_g (lw_at lw_m12 210 rfl) rfl
theorem q2921 : (Jvm.Cond.methodLink "KeyringCourtModel" (364 : Nat) ({ cls := "KeyringCourtModel", name := "newToken", desc := "(IIIIII)I" } : Jvm.MethodName)) ∈ lw_all := lw_g (lw_at lw_m12 211 rfl) rfl
theorem q2922 : (Jvm.Cond.privateMethod ({ cls := "KeyringCourtModel", name := "newToken", desc := "(IIIIII)I" } : Jvm.MethodName)) ∈ lw_tbl := lw_at lw_m12 212 rfl
theorem q2923 : (Jvm.Cond.instanceMethod ({ cls := "KeyringCourtModel", name := "newToken", desc := "(IIIIII)I" } : Jvm.MethodName)) ∈ lw_all := lw_g (lw_at lw_m12 213 rfl) rfl
theorem q2924 : (Jvm.Cond.code ({ cls := "KeyringCourtModel", name := "newToken", desc := "(IIIIII)I" } : Jvm.MethodName) prog_14_method_69_code (8 : Nat) (Option.some Jvm.ClassFile.FieldType.int)) ∈ lw_all := lw_g (lw_at lw_m12 214 rfl) rfl
theorem q2926 : (Jvm.Cond.instanceMethod ({ cls := "KeyringCourtModel", name := "refresh", desc := "(II)I" } : Jvm.MethodName)) ∈ lw_all := lw_g (lw_at lw_m12 216 rfl) rfl
theorem q2927 : (Jvm.Cond.selects "KeyringCourtModel" ({ cls := "KeyringCourtModel", name := "refresh", desc := "(II)I" } : Jvm.MethodName) ({ cls := "KeyringCourtModel", name := "refresh", desc := "(II)I" } : Jvm.MethodName)) ∈ lw_all := lw_g (lw_at lw_m12 217 rfl) rfl
theorem q2928 : (Jvm.Cond.code ({ cls := "KeyringCourtModel", name := "refresh", desc := "(II)I" } : Jvm.MethodName) prog_14_method_72_code (7 : Nat) (Option.some Jvm.ClassFile.FieldType.int)) ∈ lw_all := lw_g (lw_at lw_m12 218 rfl) rfl
theorem q2929 : (Jvm.Cond.methodLink "KeyringCourtModel" (371 : Nat) ({ cls := "KeyringCourtModel", name := "isFamily", desc := "(I)Z" } : Jvm.MethodName)) ∈ lw_all := lw_g (lw_at lw_m12 219 rfl) rfl
theorem q2930 : (Jvm.Cond.privateMethod ({ cls := "KeyringCourtModel", name := "isFamily", desc := "(I)Z" } : Jvm.MethodName)) ∈ lw_tbl := lw_at lw_m12 220 rfl
theorem q2931 : (Jvm.Cond.instanceMethod ({ cls := "KeyringCourtModel", name := "isFamily", desc := "(I)Z" } : Jvm.MethodName)) ∈ lw_all := lw_g (lw_at lw_m12 221 rfl) rfl
theorem q2932 : (Jvm.Cond.code ({ cls := "KeyringCourtModel", name := "isFamily", desc := "(I)Z" } : Jvm.MethodName) prog_14_method_12_code (2 : Nat) (Option.some Jvm.ClassFile.FieldType.boolean)) ∈ lw_all := lw_g (lw_at lw_m12 222 rfl) rfl
theorem q2934 : (Jvm.Cond.instanceMethod ({ cls := "KeyringCourtModel", name := "isGood", desc := "(I)Z" } : Jvm.MethodName)) ∈ lw_all := lw_g (lw_at lw_m12 224 rfl) rfl
theorem q2935 : (Jvm.Cond.selects "KeyringCourtModel" ({ cls := "KeyringCourtModel", name := "isGood", desc := "(I)Z" } : Jvm.MethodName) ({ cls := "KeyringCourtModel", name := "isGood", desc := "(I)Z" } : Jvm.MethodName)) ∈ lw_all := lw_g (lw_at lw_m12 225 rfl) rfl
theorem q2936 : (Jvm.Cond.code ({ cls := "KeyringCourtModel", name := "isGood", desc := "(I)Z" } : Jvm.MethodName) prog_14_method_73_code (2 : Nat) (Option.some Jvm.ClassFile.FieldType.boolean)) ∈ lw_all := lw_g (lw_at lw_m12 226 rfl) rfl
theorem q2938 : (Jvm.Cond.instanceMethod ({ cls := "KeyringCourtModel", name := "tokenOf", desc := "(I)I" } : Jvm.MethodName)) ∈ lw_all := lw_g (lw_at lw_m12 228 rfl) rfl
theorem q2939 : (Jvm.Cond.selects "KeyringCourtModel" ({ cls := "KeyringCourtModel", name := "tokenOf", desc := "(I)I" } : Jvm.MethodName) ({ cls := "KeyringCourtModel", name := "tokenOf", desc := "(I)I" } : Jvm.MethodName)) ∈ lw_all := lw_g (lw_at lw_m12 229 rfl) rfl
theorem q2940 : (Jvm.Cond.code ({ cls := "KeyringCourtModel", name := "tokenOf", desc := "(I)I" } : Jvm.MethodName) prog_14_method_74_code (2 : Nat) (Option.some Jvm.ClassFile.FieldType.int)) ∈ lw_all := lw_g (lw_at lw_m12 230 rfl) rfl
theorem q2942 : (Jvm.Cond.instanceMethod ({ cls := "KeyringCourtModel", name := "exchange", desc := "(III)I" } : Jvm.MethodName)) ∈ lw_all := lw_g (lw_at lw_m12 232 rfl) rfl
theorem q2943 : (Jvm.Cond.selects "KeyringCourtModel" ({ cls := "KeyringCourtModel", name := "exchange", desc := "(III)I" } : Jvm.MethodName) ({ cls := "KeyringCourtModel", name := "exchange", desc := "(III)I" } : Jvm.MethodName)) ∈ lw_all := lw_g (lw_at lw_m12 233 rfl) rfl
theorem q2944 : (Jvm.Cond.code ({ cls := "KeyringCourtModel", name := "exchange", desc := "(III)I" } : Jvm.MethodName) prog_14_method_75_code (8 : Nat) (Option.some Jvm.ClassFile.FieldType.int)) ∈ lw_all := lw_g (lw_at lw_m12 234 rfl) rfl
theorem q2945 : (Jvm.Cond.methodLink "KeyringCourtModel" (374 : Nat) ({ cls := "KeyringCourtModel", name := "isToken", desc := "(I)Z" } : Jvm.MethodName)) ∈ lw_all := lw_g (lw_at lw_m12 235 rfl) rfl
theorem q2946 : (Jvm.Cond.privateMethod ({ cls := "KeyringCourtModel", name := "isToken", desc := "(I)Z" } : Jvm.MethodName)) ∈ lw_tbl := lw_at lw_m12 236 rfl
theorem q2947 : (Jvm.Cond.instanceMethod ({ cls := "KeyringCourtModel", name := "isToken", desc := "(I)Z" } : Jvm.MethodName)) ∈ lw_all := lw_g (lw_at lw_m12 237 rfl) rfl
theorem q2948 : (Jvm.Cond.code ({ cls := "KeyringCourtModel", name := "isToken", desc := "(I)Z" } : Jvm.MethodName) prog_14_method_13_code (2 : Nat) (Option.some Jvm.ClassFile.FieldType.boolean)) ∈ lw_all := lw_g (lw_at lw_m12 238 rfl) rfl
theorem q2950 : (Jvm.Cond.instanceMethod ({ cls := "KeyringCourtModel", name := "token", desc := "(I)I" } : Jvm.MethodName)) ∈ lw_all := lw_g (lw_at lw_m13 0 rfl) rfl
theorem q2951 : (Jvm.Cond.selects "KeyringCourtModel" ({ cls := "KeyringCourtModel", name := "token", desc := "(I)I" } : Jvm.MethodName) ({ cls := "KeyringCourtModel", name := "token", desc := "(I)I" } : Jvm.MethodName)) ∈ lw_all := lw_g (lw_at lw_m13 1 rfl) rfl
theorem q2952 : (Jvm.Cond.code ({ cls := "KeyringCourtModel", name := "token", desc := "(I)I" } : Jvm.MethodName) prog_14_method_76_code (2 : Nat) (Option.some Jvm.ClassFile.FieldType.int)) ∈ lw_all := lw_g (lw_at lw_m13 2 rfl) rfl
theorem q2954 : (Jvm.Cond.instanceMethod ({ cls := "KeyringCourtModel", name := "turn", desc := "()I" } : Jvm.MethodName)) ∈ lw_all := lw_g (lw_at lw_m13 4 rfl) rfl
theorem q2955 : (Jvm.Cond.selects "KeyringCourtModel" ({ cls := "KeyringCourtModel", name := "turn", desc := "()I" } : Jvm.MethodName) ({ cls := "KeyringCourtModel", name := "turn", desc := "()I" } : Jvm.MethodName)) ∈ lw_all := lw_g (lw_at lw_m13 5 rfl) rfl
theorem q2956 : (Jvm.Cond.code ({ cls := "KeyringCourtModel", name := "turn", desc := "()I" } : Jvm.MethodName) prog_14_method_77_code (1 : Nat) (Option.some Jvm.ClassFile.FieldType.int)) ∈ lw_all := lw_g (lw_at lw_m13 6 rfl) rfl
theorem q2958 : (Jvm.Cond.instanceMethod ({ cls := "KeyringCourtModel", name := "emergency", desc := "()I" } : Jvm.MethodName)) ∈ lw_all := lw_g (lw_at lw_m13 8 rfl) rfl
theorem q2959 : (Jvm.Cond.selects "KeyringCourtModel" ({ cls := "KeyringCourtModel", name := "emergency", desc := "()I" } : Jvm.MethodName) ({ cls := "KeyringCourtModel", name := "emergency", desc := "()I" } : Jvm.MethodName)) ∈ lw_all := lw_g (lw_at lw_m13 9 rfl) rfl
theorem q2960 : (Jvm.Cond.code ({ cls := "KeyringCourtModel", name := "emergency", desc := "()I" } : Jvm.MethodName) prog_14_method_78_code (1 : Nat) (Option.some Jvm.ClassFile.FieldType.int)) ∈ lw_all := lw_g (lw_at lw_m13 10 rfl) rfl
theorem q2962 : (Jvm.Cond.instanceMethod ({ cls := "KeyringCourtModel", name := "signing", desc := "()I" } : Jvm.MethodName)) ∈ lw_all := lw_g (lw_at lw_m13 12 rfl) rfl
theorem q2963 : (Jvm.Cond.selects "KeyringCourtModel" ({ cls := "KeyringCourtModel", name := "signing", desc := "()I" } : Jvm.MethodName) ({ cls := "KeyringCourtModel", name := "signing", desc := "()I" } : Jvm.MethodName)) ∈ lw_all := lw_g (lw_at lw_m13 13 rfl) rfl
theorem q2964 : (Jvm.Cond.code ({ cls := "KeyringCourtModel", name := "signing", desc := "()I" } : Jvm.MethodName) prog_14_method_79_code (1 : Nat) (Option.some Jvm.ClassFile.FieldType.int)) ∈ lw_all := lw_g (lw_at lw_m13 14 rfl) rfl
theorem q2966 : (Jvm.Cond.instanceMethod ({ cls := "KeyringCourtModel", name := "isPublished", desc := "(I)Z" } : Jvm.MethodName)) ∈ lw_all := lw_g (lw_at lw_m13 16 rfl) rfl
theorem q2967 : (Jvm.Cond.selects "KeyringCourtModel" ({ cls := "KeyringCourtModel", name := "isPublished", desc := "(I)Z" } : Jvm.MethodName) ({ cls := "KeyringCourtModel", name := "isPublished", desc := "(I)Z" } : Jvm.MethodName)) ∈ lw_all := lw_g (lw_at lw_m13 17 rfl) rfl
theorem q2968 : (Jvm.Cond.code ({ cls := "KeyringCourtModel", name := "isPublished", desc := "(I)Z" } : Jvm.MethodName) prog_14_method_81_code (2 : Nat) (Option.some Jvm.ClassFile.FieldType.boolean)) ∈ lw_all := lw_g (lw_at lw_m13 18 rfl) rfl
theorem q2969 : (Jvm.Cond.methodLink "KeyringCourtModel" (377 : Nat) ({ cls := "KeyringCourtModel", name := "isOpenKey", desc := "(I)Z" } : Jvm.MethodName)) ∈ lw_all := lw_g (lw_at lw_m13 19 rfl) rfl
theorem q2970 : (Jvm.Cond.privateMethod ({ cls := "KeyringCourtModel", name := "isOpenKey", desc := "(I)Z" } : Jvm.MethodName)) ∈ lw_tbl := lw_at lw_m13 20 rfl
theorem q2971 : (Jvm.Cond.instanceMethod ({ cls := "KeyringCourtModel", name := "isOpenKey", desc := "(I)Z" } : Jvm.MethodName)) ∈ lw_all := lw_g (lw_at lw_m13 21 rfl) rfl
theorem q2972 : (Jvm.Cond.code ({ cls := "KeyringCourtModel", name := "isOpenKey", desc := "(I)Z" } : Jvm.MethodName) prog_14_method_80_code (2 : Nat) (Option.some Jvm.ClassFile.FieldType.boolean)) ∈ lw_all := lw_g (lw_at lw_m13 22 rfl) rfl
theorem q2974 : (Jvm.Cond.instanceMethod ({ cls := "KeyringCourtModel", name := "line", desc := "(I)I" } : Jvm.MethodName)) ∈ lw_all := lw_g (lw_at lw_m13 24 rfl) rfl
theorem q2975 : (Jvm.Cond.selects "KeyringCourtModel" ({ cls := "KeyringCourtModel", name := "line", desc := "(I)I" } : Jvm.MethodName) ({ cls := "KeyringCourtModel", name := "line", desc := "(I)I" } : Jvm.MethodName)) ∈ lw_all := lw_g (lw_at lw_m13 25 rfl) rfl
theorem q2976 : (Jvm.Cond.code ({ cls := "KeyringCourtModel", name := "line", desc := "(I)I" } : Jvm.MethodName) prog_14_method_82_code (5 : Nat) (Option.some Jvm.ClassFile.FieldType.int)) ∈ lw_all := lw_g (lw_at lw_m13 26 rfl) rfl
theorem q2978 : (Jvm.Cond.instanceMethod ({ cls := "KeyringCourtModel", name := "check", desc := "(III)I" } : Jvm.MethodName)) ∈ lw_all := lw_g (lw_at lw_m13 28 rfl) rfl
theorem q2979 : (Jvm.Cond.selects "KeyringCourtModel" ({ cls := "KeyringCourtModel", name := "check", desc := "(III)I" } : Jvm.MethodName) ({ cls := "KeyringCourtModel", name := "check", desc := "(III)I" } : Jvm.MethodName)) ∈ lw_all := lw_g (lw_at lw_m13 29 rfl) rfl
theorem q2980 : (Jvm.Cond.code ({ cls := "KeyringCourtModel", name := "check", desc := "(III)I" } : Jvm.MethodName) prog_14_method_83_code (6 : Nat) (Option.some Jvm.ClassFile.FieldType.int)) ∈ lw_all := lw_g (lw_at lw_m13 30 rfl) rfl
theorem q2982 : (Jvm.Cond.instanceMethod ({ cls := "KeyringCourtModel", name := "lag", desc := "(I)I" } : Jvm.MethodName)) ∈ lw_all := lw_g (lw_at lw_m13 32 rfl) rfl
theorem q2983 : (Jvm.Cond.selects "KeyringCourtModel" ({ cls := "KeyringCourtModel", name := "lag", desc := "(I)I" } : Jvm.MethodName) ({ cls := "KeyringCourtModel", name := "lag", desc := "(I)I" } : Jvm.MethodName)) ∈ lw_all := lw_g (lw_at lw_m13 33 rfl) rfl
theorem q2984 : (Jvm.Cond.code ({ cls := "KeyringCourtModel", name := "lag", desc := "(I)I" } : Jvm.MethodName) prog_14_method_84_code (3 : Nat) (Option.some Jvm.ClassFile.FieldType.int)) ∈ lw_all := lw_g (lw_at lw_m13 34 rfl) rfl
theorem q2986 : (Jvm.Cond.instanceMethod ({ cls := "KeyringCourtModel", name := "recover", desc := "(I)I" } : Jvm.MethodName)) ∈ lw_all := lw_g (lw_at lw_m13 36 rfl) rfl
theorem q2987 : (Jvm.Cond.selects "KeyringCourtModel" ({ cls := "KeyringCourtModel", name := "recover", desc := "(I)I" } : Jvm.MethodName) ({ cls := "KeyringCourtModel", name := "recover", desc := "(I)I" } : Jvm.MethodName)) ∈ lw_all := lw_g (lw_at lw_m13 37 rfl) rfl
theorem q2988 : (Jvm.Cond.code ({ cls := "KeyringCourtModel", name := "recover", desc := "(I)I" } : Jvm.MethodName) prog_14_method_85_code (5 : Nat) (Option.some Jvm.ClassFile.FieldType.int)) ∈ lw_all := lw_g (lw_at lw_m13 38 rfl) rfl
theorem q2990 : (Jvm.Cond.instanceMethod ({ cls := "KeyringCourtModel", name := "vouch", desc := "(II)I" } : Jvm.MethodName)) ∈ lw_all := lw_g (lw_at lw_m13 40 rfl) rfl
theorem q2991 : (Jvm.Cond.selects "KeyringCourtModel" ({ cls := "KeyringCourtModel", name := "vouch", desc := "(II)I" } : Jvm.MethodName) ({ cls := "KeyringCourtModel", name := "vouch", desc := "(II)I" } : Jvm.MethodName)) ∈ lw_all := lw_g (lw_at lw_m13 41 rfl) rfl
theorem q2992 : (Jvm.Cond.code ({ cls := "KeyringCourtModel", name := "vouch", desc := "(II)I" } : Jvm.MethodName) prog_14_method_89_code (5 : Nat) (Option.some Jvm.ClassFile.FieldType.int)) ∈ lw_all := lw_g (lw_at lw_m13 42 rfl) rfl
theorem q2993 : (Jvm.Cond.methodLink "KeyringCourtModel" (383 : Nat) ({ cls := "KeyringCourtModel", name := "isRecovery", desc := "(I)Z" } : Jvm.MethodName)) ∈ lw_all := lw_g (lw_at lw_m13 43 rfl) rfl
theorem q2994 : (Jvm.Cond.privateMethod ({ cls := "KeyringCourtModel", name := "isRecovery", desc := "(I)Z" } : Jvm.MethodName)) ∈ lw_tbl := lw_at lw_m13 44 rfl
theorem q2995 : (Jvm.Cond.instanceMethod ({ cls := "KeyringCourtModel", name := "isRecovery", desc := "(I)Z" } : Jvm.MethodName)) ∈ lw_all := lw_g (lw_at lw_m13 45 rfl) rfl
theorem q2996 : (Jvm.Cond.code ({ cls := "KeyringCourtModel", name := "isRecovery", desc := "(I)Z" } : Jvm.MethodName) prog_14_method_87_code (2 : Nat) (Option.some Jvm.ClassFile.FieldType.boolean)) ∈ lw_all := lw_g (lw_at lw_m13 46 rfl) rfl
theorem q2997 : (Jvm.Cond.methodLink "KeyringCourtModel" (386 : Nat) ({ cls := "KeyringCourtModel", name := "speaks", desc := "(I)Z" } : Jvm.MethodName)) ∈ lw_all := lw_g (lw_at lw_m13 47 rfl) rfl
theorem q2998 : (Jvm.Cond.privateMethod ({ cls := "KeyringCourtModel", name := "speaks", desc := "(I)Z" } : Jvm.MethodName)) ∈ lw_tbl := lw_at lw_m13 48 rfl
theorem q2999 : (Jvm.Cond.instanceMethod ({ cls := "KeyringCourtModel", name := "speaks", desc := "(I)Z" } : Jvm.MethodName)) ∈ lw_all := lw_g (lw_at lw_m13 49 rfl) rfl
theorem q3000 : (Jvm.Cond.code ({ cls := "KeyringCourtModel", name := "speaks", desc := "(I)Z" } : Jvm.MethodName) prog_14_method_86_code (2 : Nat) (Option.some Jvm.ClassFile.FieldType.boolean)) ∈ lw_all := lw_g (lw_at lw_m13 50 rfl) rfl
theorem q3002 : (Jvm.Cond.instanceMethod ({ cls := "KeyringCourtModel", name := "stop", desc := "(II)I" } : Jvm.MethodName)) ∈ lw_all := lw_g (lw_at lw_m13 52 rfl) rfl
theorem q3003 : (Jvm.Cond.selects "KeyringCourtModel" ({ cls := "KeyringCourtModel", name := "stop", desc := "(II)I" } : Jvm.MethodName) ({ cls := "KeyringCourtModel", name := "stop", desc := "(II)I" } : Jvm.MethodName)) ∈ lw_all := lw_g (lw_at lw_m13 53 rfl) rfl
theorem q3004 : (Jvm.Cond.code ({ cls := "KeyringCourtModel", name := "stop", desc := "(II)I" } : Jvm.MethodName) prog_14_method_90_code (4 : Nat) (Option.some Jvm.ClassFile.FieldType.int)) ∈ lw_all := lw_g (lw_at lw_m13 54 rfl) rfl
theorem q3005 : (Jvm.Cond.methodLink "KeyringCourtModel" (389 : Nat) ({ cls := "KeyringCourtModel", name := "many", desc := "(I)I" } : Jvm.MethodName)) ∈ lw_all := lw_g (lw_at lw_m13 55 rfl) rfl
theorem q3006 : (Jvm.Cond.static ({ cls := "KeyringCourtModel", name := "many", desc := "(I)I" } : Jvm.MethodName)) ∈ lw_all := lw_g (lw_at lw_m13 56 rfl) rfl
theorem q3007 : (Jvm.Cond.code ({ cls := "KeyringCourtModel", name := "many", desc := "(I)I" } : Jvm.MethodName) prog_14_method_88_code (3 : Nat) (Option.some Jvm.ClassFile.FieldType.int)) ∈ lw_all := lw_g (lw_at lw_m13 57 rfl) rfl
theorem q3009 : (Jvm.Cond.instanceMethod ({ cls := "KeyringCourtModel", name := "finish", desc := "(I)I" } : Jvm.MethodName)) ∈ lw_all := lw_g (lw_at lw_m13 59 rfl) rfl
theorem q3010 : (Jvm.Cond.selects "KeyringCourtModel" ({ cls := "KeyringCourtModel", name := "finish", desc := "(I)I" } : Jvm.MethodName) ({ cls := "KeyringCourtModel", name := "finish", desc := "(I)I" } : Jvm.MethodName)) ∈ lw_all := lw_g (lw_at lw_m13 60 rfl) rfl
theorem q3011 : (Jvm.Cond.code ({ cls := "KeyringCourtModel", name := "finish", desc := "(I)I" } : Jvm.MethodName) prog_14_method_91_code (8 : Nat) (Option.some Jvm.ClassFile.FieldType.int)) ∈ lw_all := lw_g (lw_at lw_m13 61 rfl) rfl
theorem q3012 : (Jvm.Cond.methodLink "KeyringCourtModel" (392 : Nat) ({ cls := "KeyringCourtModel", name := "weight", desc := "(I)I" } : Jvm.MethodName)) ∈ lw_all := lw_g (lw_at lw_m13 62 rfl) rfl
theorem q3013 : (Jvm.Cond.static ({ cls := "KeyringCourtModel", name := "weight", desc := "(I)I" } : Jvm.MethodName)) ∈ lw_all := lw_g (lw_at lw_m13 63 rfl) rfl
theorem q3014 : (Jvm.Cond.code ({ cls := "KeyringCourtModel", name := "weight", desc := "(I)I" } : Jvm.MethodName) prog_14_method_28_code (1 : Nat) (Option.some Jvm.ClassFile.FieldType.int)) ∈ lw_all := lw_g (lw_at lw_m13 64 rfl) rfl
theorem q3015 : (Jvm.Cond.methodLink "KeyringCourtModel" (395 : Nat) ({ cls := "KeyringCourtModel", name := "endAllOf", desc := "(I)I" } : Jvm.MethodName)) ∈ lw_all := lw_g (lw_at lw_m13 65 rfl) rfl
theorem q3016 : (Jvm.Cond.privateMethod ({ cls := "KeyringCourtModel", name := "endAllOf", desc := "(I)I" } : Jvm.MethodName)) ∈ lw_tbl := lw_at lw_m13 66 rfl
theorem q3017 : (Jvm.Cond.instanceMethod ({ cls := "KeyringCourtModel", name := "endAllOf", desc := "(I)I" } : Jvm.MethodName)) ∈ lw_all := lw_g (lw_at lw_m13 67 rfl) rfl
theorem q3018 : (Jvm.Cond.code ({ cls := "KeyringCourtModel", name := "endAllOf", desc := "(I)I" } : Jvm.MethodName) prog_14_method_23_code (4 : Nat) (Option.some Jvm.ClassFile.FieldType.int)) ∈ lw_all := lw_g (lw_at lw_m13 68 rfl) rfl
theorem q3020 : (Jvm.Cond.instanceMethod ({ cls := "KeyringCourtModel", name := "link", desc := "(II)I" } : Jvm.MethodName)) ∈ lw_all := lw_g (lw_at lw_m13 70 rfl) rfl
theorem q3021 : (Jvm.Cond.selects "KeyringCourtModel" ({ cls := "KeyringCourtModel", name := "link", desc := "(II)I" } : Jvm.MethodName) ({ cls := "KeyringCourtModel", name := "link", desc := "(II)I" } : Jvm.MethodName)) ∈ lw_all := lw_g (lw_at lw_m13 71 rfl) rfl
theorem q3022 : (Jvm.Cond.code ({ cls := "KeyringCourtModel", name := "link", desc := "(II)I" } : Jvm.MethodName) prog_14_method_92_code (5 : Nat) (Option.some Jvm.ClassFile.FieldType.int)) ∈ lw_all := lw_g (lw_at lw_m13 72 rfl) rfl
theorem q3024 : (Jvm.Cond.instanceMethod ({ cls := "KeyringCourtModel", name := "foreign", desc := "(I)I" } : Jvm.MethodName)) ∈ lw_all := lw_g (lw_at lw_m13 74 rfl) rfl
theorem q3025 : (Jvm.Cond.selects "KeyringCourtModel" ({ cls := "KeyringCourtModel", name := "foreign", desc := "(I)I" } : Jvm.MethodName) ({ cls := "KeyringCourtModel", name := "foreign", desc := "(I)I" } : Jvm.MethodName)) ∈ lw_all := lw_g (lw_at lw_m13 75 rfl) rfl
theorem q3026 : (Jvm.Cond.code ({ cls := "KeyringCourtModel", name := "foreign", desc := "(I)I" } : Jvm.MethodName) prog_14_method_93_code (3 : Nat) (Option.some Jvm.ClassFile.FieldType.int)) ∈ lw_all := lw_g (lw_at lw_m13 76 rfl) rfl
theorem q3028 : (Jvm.Cond.instanceMethod ({ cls := "KeyringCourtModel", name := "leave", desc := "(I)I" } : Jvm.MethodName)) ∈ lw_all := lw_g (lw_at lw_m13 78 rfl) rfl
theorem q3029 : (Jvm.Cond.selects "KeyringCourtModel" ({ cls := "KeyringCourtModel", name := "leave", desc := "(I)I" } : Jvm.MethodName) ({ cls := "KeyringCourtModel", name := "leave", desc := "(I)I" } : Jvm.MethodName)) ∈ lw_all := lw_g (lw_at lw_m13 79 rfl) rfl
theorem q3030 : (Jvm.Cond.code ({ cls := "KeyringCourtModel", name := "leave", desc := "(I)I" } : Jvm.MethodName) prog_14_method_94_code (4 : Nat) (Option.some Jvm.ClassFile.FieldType.int)) ∈ lw_all := lw_g (lw_at lw_m13 80 rfl) rfl
theorem q3059 : (Jvm.Cond.castable "KeyringCourtModel" "java/lang/Object") ∈ lw_tbl := lw_at lw_m13 109 rfl
theorem in_X5 : ∀ w ∈ wsX50, w ∈ lw_all := lw_in wsX50 [2499, 2501, 2503, 2505, 2507, 2509, 2511, 2513, 2515, 2517, 2519, 2521, 2523, 2525, 2527, 2529, 2531, 2533, 2535, 2537, 2539, 2541, 2543, 2545, 2547, 2549, 2551, 2553, 2555, 2557, 2559, 2561, 2563, 2565, 2567, 2569, 2571, 2573, 2575, 2577, 2579, 2581, 2583, 2585, 2587, 2589, 2591, 2593, 2595, 2597, 2599, 2601, 2603, 2605, 2607, 2609, 2611, 2613, 2615, 2617, 2619, 2621, 2623, 2625, 2627, 2629, 2631, 2633, 2635, 2637, 2639, 2641, 2643, 2645, 2647, 2649, 2651, 2653, 2655, 2657, 2659, 2661, 2663] (by decide +kernel) (by decide +kernel)
