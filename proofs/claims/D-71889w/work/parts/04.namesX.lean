/-! StarTracker -/
set_option maxRecDepth 100000
def RX0 : String := "StarTracker"
def TX0 : u_T := fun k => match k with
  | 0 => ("StarTracker", "turners", "[LStarTracker$Turner;", true)
  | 1 => ("StarTracker", "near", "LStarTracker$Fit;", true)
  | 2 => ("StarTracker", "dot", "LStarTracker$Product;", true)
  | 3 => ("StarTracker", "bodies", "[[LStarTracker$Body;", true)
  | 4 => ("StarTracker", "many", "[I", true)
  | 5 => ("StarTracker", "settings", "[I", true)
  | 6 => ("StarTracker", "isVoted", "Z", false)
  | 7 => ("StarTracker", "lotsNow", "I", false)
  | 8 => ("StarTracker", "seen", "[I", true)
  | 9 => ("StarTracker", "keyOne", "[I", true)
  | 10 => ("StarTracker", "keyTwo", "[I", true)
  | 11 => ("StarTracker", "votes", "[[I", true)
  | 12 => ("StarTracker", "looked", "I", false)
  | 13 => ("StarTracker", "matched", "I", false)
  | 14 => ("StarTracker", "without", "I", false)
  | 15 => ("StarTracker", "trio", "[I", true)
  | 16 => ("StarTracker", "takenStar", "[I", true)
  | 17 => ("StarTracker", "takenAs", "[I", true)
  | 18 => ("StarTracker", "takenSpot", "[I", true)
  | 19 => ("StarTracker", "pairs", "I", false)
  | 20 => ("StarTracker", "starArms", "[[J", true)
  | 21 => ("StarTracker", "spotArms", "[[J", true)
  | 22 => ("StarTracker", "isTurn", "Z", false)
  | 23 => ("StarTracker", "places", "[[I", true)
  | 24 => ("StarTracker", "byStar", "[I", true)
  | 25 => ("StarTracker", "byFar", "[I", true)
  | 26 => ("StarTracker", "one", "[J", true)
  | 27 => ("StarTracker", "usedNow", "[I", true)
  | 28 => ("StarTracker", "trays", "[[LStarTracker$Body;", true)
  | 29 => ("StarTracker", "laidMany", "[I", true)
  | 30 => ("StarTracker", "sheets", "[LStarTracker$Sheet;", true)
  | _ => ("StarTracker", "finding", "I", false)
def tyX0 : Nat → FieldType := fun k => match k with
  | 0 => .array (.object "StarTracker$Turner")
  | 1 => .object "StarTracker$Fit"
  | 2 => .object "StarTracker$Product"
  | 3 => .array (.array (.object "StarTracker$Body"))
  | 4 => .array .int
  | 5 => .array .int
  | 6 => .boolean
  | 7 => .int
  | 8 => .array .int
  | 9 => .array .int
  | 10 => .array .int
  | 11 => .array (.array .int)
  | 12 => .int
  | 13 => .int
  | 14 => .int
  | 15 => .array .int
  | 16 => .array .int
  | 17 => .array .int
  | 18 => .array .int
  | 19 => .int
  | 20 => .array (.array .long)
  | 21 => .array (.array .long)
  | 22 => .boolean
  | 23 => .array (.array .int)
  | 24 => .array .int
  | 25 => .array .int
  | 26 => .array .long
  | 27 => .array .int
  | 28 => .array (.array (.object "StarTracker$Body"))
  | 29 => .array .int
  | 30 => .array (.object "StarTracker$Sheet")
  | _ => .int
abbrev wsX00 : List Cond := u_ws RX0 TX0 32
set_option maxRecDepth 100000 in
theorem nmX0 : ∀ a, a < 32 → ∀ b, b < 32 → a ≠ b → (TX0 a).2.1 ≠ (TX0 b).2.1 := by decide +kernel
set_option maxRecDepth 100000 in
theorem tyX0_ok : ∀ k, k < 32 → parseFieldDescriptor (TX0 k).2.2.1 = some (tyX0 k) := by decide +kernel
abbrev cX0_add : ByteArray := prog_1_method_11_code
def yX0_add : MethodName := ⟨RX0, "add", "(IIII)I"⟩
def dkwX0_add_0 : List UInt8 := [27, 184, 0, 35, 153, 0, 15, 42, 27, 28, 29, 21, 4, 182, 0, 39, 167, 0, 5, 16, 254, 172]
abbrev dktX0_add_0 : List UInt8 := dkwX0_add_0 ++ []
theorem dksX0_add_0 : cX0_add.data.toList.drop 0 = dktX0_add_0 := by decide +kernel
theorem dX0_add_0 : decode cX0_add 0 = .ok (.iload_n 1, 1) := dk_27 (dk_at dksX0_add_0 0 rfl rfl)
theorem dX0_add_1 : decode cX0_add 1 = .ok (.invokestatic 35, 3) := dk_184 0 35 (dk_at dksX0_add_0 1 rfl rfl)
theorem dX0_add_4 : decode cX0_add 4 = .ok (.ifCond .eq 15, 3) := dk_153 0 15 (dk_at dksX0_add_0 4 rfl rfl)
theorem dX0_add_7 : decode cX0_add 7 = .ok (.aload_n 0, 1) := dk_42 (dk_at dksX0_add_0 7 rfl rfl)
theorem dX0_add_8 : decode cX0_add 8 = .ok (.iload_n 1, 1) := dk_27 (dk_at dksX0_add_0 8 rfl rfl)
theorem dX0_add_9 : decode cX0_add 9 = .ok (.iload_n 2, 1) := dk_28 (dk_at dksX0_add_0 9 rfl rfl)
theorem dX0_add_10 : decode cX0_add 10 = .ok (.iload_n 3, 1) := dk_29 (dk_at dksX0_add_0 10 rfl rfl)
theorem dX0_add_11 : decode cX0_add 11 = .ok (.iload 4, 2) := dk_21 4 (dk_at dksX0_add_0 11 rfl rfl)
theorem dX0_add_13 : decode cX0_add 13 = .ok (.invokevirtual 39, 3) := dk_182 0 39 (dk_at dksX0_add_0 13 rfl rfl)
theorem dX0_add_16 : decode cX0_add 16 = .ok (.goto 5, 3) := dk_167 0 5 (dk_at dksX0_add_0 16 rfl rfl)
theorem dX0_add_19 : decode cX0_add 19 = .ok (.bipush (-2), 2) := dk_16 254 (dk_at dksX0_add_0 19 rfl rfl)
theorem dX0_add_21 : decode cX0_add 21 = .ok (.ireturn, 1) := dk_172 (dk_at dksX0_add_0 21 rfl rfl)
abbrev cX0_isTwo : ByteArray := prog_1_method_2_code
def yX0_isTwo : MethodName := ⟨RX0, "isTwo", "(I)Z"⟩
def dkwX0_isTwo_0 : List UInt8 := [26, 3, 4, 184, 0, 1, 172]
abbrev dktX0_isTwo_0 : List UInt8 := dkwX0_isTwo_0 ++ []
theorem dksX0_isTwo_0 : cX0_isTwo.data.toList.drop 0 = dktX0_isTwo_0 := by decide +kernel
theorem dX0_isTwo_0 : decode cX0_isTwo 0 = .ok (.iload_n 0, 1) := dk_26 (dk_at dksX0_isTwo_0 0 rfl rfl)
theorem dX0_isTwo_1 : decode cX0_isTwo 1 = .ok (.iconst 0, 1) := dk_3 (dk_at dksX0_isTwo_0 1 rfl rfl)
theorem dX0_isTwo_2 : decode cX0_isTwo 2 = .ok (.iconst 1, 1) := dk_4 (dk_at dksX0_isTwo_0 2 rfl rfl)
theorem dX0_isTwo_3 : decode cX0_isTwo 3 = .ok (.invokestatic 1, 3) := dk_184 0 1 (dk_at dksX0_isTwo_0 3 rfl rfl)
theorem dX0_isTwo_6 : decode cX0_isTwo 6 = .ok (.ireturn, 1) := dk_172 (dk_at dksX0_isTwo_0 6 rfl rfl)
abbrev cX0_in : ByteArray := prog_1_method_1_code
def yX0_in : MethodName := ⟨RX0, "in", "(III)Z"⟩
def dkwX0_in_0 : List UInt8 := [26, 27, 161, 0, 12, 26, 28, 163, 0, 7, 4, 167, 0, 4, 3, 172]
abbrev dktX0_in_0 : List UInt8 := dkwX0_in_0 ++ []
theorem dksX0_in_0 : cX0_in.data.toList.drop 0 = dktX0_in_0 := by decide +kernel
theorem dX0_in_0 : decode cX0_in 0 = .ok (.iload_n 0, 1) := dk_26 (dk_at dksX0_in_0 0 rfl rfl)
theorem dX0_in_1 : decode cX0_in 1 = .ok (.iload_n 1, 1) := dk_27 (dk_at dksX0_in_0 1 rfl rfl)
theorem dX0_in_2 : decode cX0_in 2 = .ok (.if_icmp .lt 12, 3) := dk_161 0 12 (dk_at dksX0_in_0 2 rfl rfl)
theorem dX0_in_5 : decode cX0_in 5 = .ok (.iload_n 0, 1) := dk_26 (dk_at dksX0_in_0 5 rfl rfl)
theorem dX0_in_6 : decode cX0_in 6 = .ok (.iload_n 2, 1) := dk_28 (dk_at dksX0_in_0 6 rfl rfl)
theorem dX0_in_7 : decode cX0_in 7 = .ok (.if_icmp .gt 7, 3) := dk_163 0 7 (dk_at dksX0_in_0 7 rfl rfl)
theorem dX0_in_10 : decode cX0_in 10 = .ok (.iconst 1, 1) := dk_4 (dk_at dksX0_in_0 10 rfl rfl)
theorem dX0_in_11 : decode cX0_in 11 = .ok (.goto 4, 3) := dk_167 0 4 (dk_at dksX0_in_0 11 rfl rfl)
theorem dX0_in_14 : decode cX0_in 14 = .ok (.iconst 0, 1) := dk_3 (dk_at dksX0_in_0 14 rfl rfl)
theorem dX0_in_15 : decode cX0_in 15 = .ok (.ireturn, 1) := dk_172 (dk_at dksX0_in_0 15 rfl rfl)
abbrev cX0_adds : ByteArray := prog_1_method_10_code
def yX0_adds : MethodName := ⟨RX0, "adds", "(IIII)I"⟩
def dkwX0_adds_1 : List UInt8 := [50, 190, 160, 0, 6, 16, 252, 172, 42, 27, 28, 29, 21, 4, 182, 0, 31, 42, 180, 0, 11, 27, 46, 172]
abbrev dktX0_adds_1 : List UInt8 := dkwX0_adds_1 ++ []
def dkwX0_adds_0 : List UInt8 := [28, 29, 21, 4, 184, 0, 28, 154, 0, 6, 16, 254, 172, 42, 180, 0, 11, 27, 46, 42, 180, 0, 7, 27]
abbrev dktX0_adds_0 : List UInt8 := dkwX0_adds_0 ++ dktX0_adds_1
theorem dksX0_adds_0 : cX0_adds.data.toList.drop 0 = dktX0_adds_0 := by decide +kernel
theorem dksX0_adds_1 : cX0_adds.data.toList.drop 24 = dktX0_adds_1 := dk_seg dksX0_adds_0 24 rfl rfl
theorem dX0_adds_0 : decode cX0_adds 0 = .ok (.iload_n 2, 1) := dk_28 (dk_at dksX0_adds_0 0 rfl rfl)
theorem dX0_adds_1 : decode cX0_adds 1 = .ok (.iload_n 3, 1) := dk_29 (dk_at dksX0_adds_0 1 rfl rfl)
theorem dX0_adds_2 : decode cX0_adds 2 = .ok (.iload 4, 2) := dk_21 4 (dk_at dksX0_adds_0 2 rfl rfl)
theorem dX0_adds_4 : decode cX0_adds 4 = .ok (.invokestatic 28, 3) := dk_184 0 28 (dk_at dksX0_adds_0 4 rfl rfl)
theorem dX0_adds_7 : decode cX0_adds 7 = .ok (.ifCond .ne 6, 3) := dk_154 0 6 (dk_at dksX0_adds_0 7 rfl rfl)
theorem dX0_adds_10 : decode cX0_adds 10 = .ok (.bipush (-2), 2) := dk_16 254 (dk_at dksX0_adds_0 10 rfl rfl)
theorem dX0_adds_12 : decode cX0_adds 12 = .ok (.ireturn, 1) := dk_172 (dk_at dksX0_adds_0 12 rfl rfl)
theorem dX0_adds_13 : decode cX0_adds 13 = .ok (.aload_n 0, 1) := dk_42 (dk_at dksX0_adds_0 13 rfl rfl)
theorem dX0_adds_14 : decode cX0_adds 14 = .ok (.getfield 11, 3) := dk_180 0 11 (dk_at dksX0_adds_0 14 rfl rfl)
theorem dX0_adds_17 : decode cX0_adds 17 = .ok (.iload_n 1, 1) := dk_27 (dk_at dksX0_adds_0 17 rfl rfl)
theorem dX0_adds_18 : decode cX0_adds 18 = .ok (.iaload, 1) := dk_46 (dk_at dksX0_adds_0 18 rfl rfl)
theorem dX0_adds_19 : decode cX0_adds 19 = .ok (.aload_n 0, 1) := dk_42 (dk_at dksX0_adds_0 19 rfl rfl)
theorem dX0_adds_20 : decode cX0_adds 20 = .ok (.getfield 7, 3) := dk_180 0 7 (dk_at dksX0_adds_0 20 rfl rfl)
theorem dX0_adds_23 : decode cX0_adds 23 = .ok (.iload_n 1, 1) := dk_27 (dk_at dksX0_adds_0 23 rfl rfl)
theorem dX0_adds_24 : decode cX0_adds 24 = .ok (.aaload, 1) := dk_50 (dk_at dksX0_adds_1 0 rfl rfl)
theorem dX0_adds_25 : decode cX0_adds 25 = .ok (.arraylength, 1) := dk_190 (dk_at dksX0_adds_1 1 rfl rfl)
theorem dX0_adds_26 : decode cX0_adds 26 = .ok (.if_icmp .ne 6, 3) := dk_160 0 6 (dk_at dksX0_adds_1 2 rfl rfl)
theorem dX0_adds_29 : decode cX0_adds 29 = .ok (.bipush (-4), 2) := dk_16 252 (dk_at dksX0_adds_1 5 rfl rfl)
theorem dX0_adds_31 : decode cX0_adds 31 = .ok (.ireturn, 1) := dk_172 (dk_at dksX0_adds_1 7 rfl rfl)
theorem dX0_adds_32 : decode cX0_adds 32 = .ok (.aload_n 0, 1) := dk_42 (dk_at dksX0_adds_1 8 rfl rfl)
theorem dX0_adds_33 : decode cX0_adds 33 = .ok (.iload_n 1, 1) := dk_27 (dk_at dksX0_adds_1 9 rfl rfl)
theorem dX0_adds_34 : decode cX0_adds 34 = .ok (.iload_n 2, 1) := dk_28 (dk_at dksX0_adds_1 10 rfl rfl)
theorem dX0_adds_35 : decode cX0_adds 35 = .ok (.iload_n 3, 1) := dk_29 (dk_at dksX0_adds_1 11 rfl rfl)
theorem dX0_adds_36 : decode cX0_adds 36 = .ok (.iload 4, 2) := dk_21 4 (dk_at dksX0_adds_1 12 rfl rfl)
theorem dX0_adds_38 : decode cX0_adds 38 = .ok (.invokevirtual 31, 3) := dk_182 0 31 (dk_at dksX0_adds_1 14 rfl rfl)
theorem dX0_adds_41 : decode cX0_adds 41 = .ok (.aload_n 0, 1) := dk_42 (dk_at dksX0_adds_1 17 rfl rfl)
theorem dX0_adds_42 : decode cX0_adds 42 = .ok (.getfield 11, 3) := dk_180 0 11 (dk_at dksX0_adds_1 18 rfl rfl)
theorem dX0_adds_45 : decode cX0_adds 45 = .ok (.iload_n 1, 1) := dk_27 (dk_at dksX0_adds_1 21 rfl rfl)
theorem dX0_adds_46 : decode cX0_adds 46 = .ok (.iaload, 1) := dk_46 (dk_at dksX0_adds_1 22 rfl rfl)
theorem dX0_adds_47 : decode cX0_adds 47 = .ok (.ireturn, 1) := dk_172 (dk_at dksX0_adds_1 23 rfl rfl)
abbrev cX0_isDirection : ByteArray := prog_1_method_8_code
def yX0_isDirection : MethodName := ⟨RX0, "isDirection", "(III)Z"⟩
def dkwX0_isDirection_2 : List UInt8 := [27, 154, 0, 7, 28, 153, 0, 7, 4, 167, 0, 4, 3, 172]
abbrev dktX0_isDirection_2 : List UInt8 := dkwX0_isDirection_2 ++ []
def dkwX0_isDirection_1 : List UInt8 := [16, 156, 16, 100, 184, 0, 1, 153, 0, 7, 4, 167, 0, 4, 3, 62, 29, 153, 0, 19, 26, 154, 0, 11]
abbrev dktX0_isDirection_1 : List UInt8 := dkwX0_isDirection_1 ++ dktX0_isDirection_2
def dkwX0_isDirection_0 : List UInt8 := [26, 16, 156, 16, 100, 184, 0, 1, 153, 0, 29, 27, 16, 156, 16, 100, 184, 0, 1, 153, 0, 18, 28]
abbrev dktX0_isDirection_0 : List UInt8 := dkwX0_isDirection_0 ++ dktX0_isDirection_1
theorem dksX0_isDirection_0 : cX0_isDirection.data.toList.drop 0 = dktX0_isDirection_0 := by decide +kernel
theorem dksX0_isDirection_1 : cX0_isDirection.data.toList.drop 23 = dktX0_isDirection_1 := dk_seg dksX0_isDirection_0 23 rfl rfl
theorem dksX0_isDirection_2 : cX0_isDirection.data.toList.drop 47 = dktX0_isDirection_2 := dk_seg dksX0_isDirection_1 24 rfl rfl
theorem dX0_isDirection_0 : decode cX0_isDirection 0 = .ok (.iload_n 0, 1) := dk_26 (dk_at dksX0_isDirection_0 0 rfl rfl)
theorem dX0_isDirection_1 : decode cX0_isDirection 1 = .ok (.bipush (-100), 2) := dk_16 156 (dk_at dksX0_isDirection_0 1 rfl rfl)
theorem dX0_isDirection_3 : decode cX0_isDirection 3 = .ok (.bipush 100, 2) := dk_16 100 (dk_at dksX0_isDirection_0 3 rfl rfl)
theorem dX0_isDirection_5 : decode cX0_isDirection 5 = .ok (.invokestatic 1, 3) := dk_184 0 1 (dk_at dksX0_isDirection_0 5 rfl rfl)
theorem dX0_isDirection_8 : decode cX0_isDirection 8 = .ok (.ifCond .eq 29, 3) := dk_153 0 29 (dk_at dksX0_isDirection_0 8 rfl rfl)
theorem dX0_isDirection_11 : decode cX0_isDirection 11 = .ok (.iload_n 1, 1) := dk_27 (dk_at dksX0_isDirection_0 11 rfl rfl)
theorem dX0_isDirection_12 : decode cX0_isDirection 12 = .ok (.bipush (-100), 2) := dk_16 156 (dk_at dksX0_isDirection_0 12 rfl rfl)
theorem dX0_isDirection_14 : decode cX0_isDirection 14 = .ok (.bipush 100, 2) := dk_16 100 (dk_at dksX0_isDirection_0 14 rfl rfl)
theorem dX0_isDirection_16 : decode cX0_isDirection 16 = .ok (.invokestatic 1, 3) := dk_184 0 1 (dk_at dksX0_isDirection_0 16 rfl rfl)
theorem dX0_isDirection_19 : decode cX0_isDirection 19 = .ok (.ifCond .eq 18, 3) := dk_153 0 18 (dk_at dksX0_isDirection_0 19 rfl rfl)
theorem dX0_isDirection_22 : decode cX0_isDirection 22 = .ok (.iload_n 2, 1) := dk_28 (dk_at dksX0_isDirection_0 22 rfl rfl)
theorem dX0_isDirection_23 : decode cX0_isDirection 23 = .ok (.bipush (-100), 2) := dk_16 156 (dk_at dksX0_isDirection_1 0 rfl rfl)
theorem dX0_isDirection_25 : decode cX0_isDirection 25 = .ok (.bipush 100, 2) := dk_16 100 (dk_at dksX0_isDirection_1 2 rfl rfl)
theorem dX0_isDirection_27 : decode cX0_isDirection 27 = .ok (.invokestatic 1, 3) := dk_184 0 1 (dk_at dksX0_isDirection_1 4 rfl rfl)
theorem dX0_isDirection_30 : decode cX0_isDirection 30 = .ok (.ifCond .eq 7, 3) := dk_153 0 7 (dk_at dksX0_isDirection_1 7 rfl rfl)
theorem dX0_isDirection_33 : decode cX0_isDirection 33 = .ok (.iconst 1, 1) := dk_4 (dk_at dksX0_isDirection_1 10 rfl rfl)
theorem dX0_isDirection_34 : decode cX0_isDirection 34 = .ok (.goto 4, 3) := dk_167 0 4 (dk_at dksX0_isDirection_1 11 rfl rfl)
theorem dX0_isDirection_37 : decode cX0_isDirection 37 = .ok (.iconst 0, 1) := dk_3 (dk_at dksX0_isDirection_1 14 rfl rfl)
theorem dX0_isDirection_38 : decode cX0_isDirection 38 = .ok (.istore_n 3, 1) := dk_62 (dk_at dksX0_isDirection_1 15 rfl rfl)
theorem dX0_isDirection_39 : decode cX0_isDirection 39 = .ok (.iload_n 3, 1) := dk_29 (dk_at dksX0_isDirection_1 16 rfl rfl)
theorem dX0_isDirection_40 : decode cX0_isDirection 40 = .ok (.ifCond .eq 19, 3) := dk_153 0 19 (dk_at dksX0_isDirection_1 17 rfl rfl)
theorem dX0_isDirection_43 : decode cX0_isDirection 43 = .ok (.iload_n 0, 1) := dk_26 (dk_at dksX0_isDirection_1 20 rfl rfl)
theorem dX0_isDirection_44 : decode cX0_isDirection 44 = .ok (.ifCond .ne 11, 3) := dk_154 0 11 (dk_at dksX0_isDirection_1 21 rfl rfl)
theorem dX0_isDirection_47 : decode cX0_isDirection 47 = .ok (.iload_n 1, 1) := dk_27 (dk_at dksX0_isDirection_2 0 rfl rfl)
theorem dX0_isDirection_48 : decode cX0_isDirection 48 = .ok (.ifCond .ne 7, 3) := dk_154 0 7 (dk_at dksX0_isDirection_2 1 rfl rfl)
theorem dX0_isDirection_51 : decode cX0_isDirection 51 = .ok (.iload_n 2, 1) := dk_28 (dk_at dksX0_isDirection_2 4 rfl rfl)
theorem dX0_isDirection_52 : decode cX0_isDirection 52 = .ok (.ifCond .eq 7, 3) := dk_153 0 7 (dk_at dksX0_isDirection_2 5 rfl rfl)
theorem dX0_isDirection_55 : decode cX0_isDirection 55 = .ok (.iconst 1, 1) := dk_4 (dk_at dksX0_isDirection_2 8 rfl rfl)
theorem dX0_isDirection_56 : decode cX0_isDirection 56 = .ok (.goto 4, 3) := dk_167 0 4 (dk_at dksX0_isDirection_2 9 rfl rfl)
theorem dX0_isDirection_59 : decode cX0_isDirection 59 = .ok (.iconst 0, 1) := dk_3 (dk_at dksX0_isDirection_2 12 rfl rfl)
theorem dX0_isDirection_60 : decode cX0_isDirection 60 = .ok (.ireturn, 1) := dk_172 (dk_at dksX0_isDirection_2 13 rfl rfl)
abbrev cX0_keeps : ByteArray := prog_1_method_9_code
def yX0_keeps : MethodName := ⟨RX0, "keeps", "(IIII)V"⟩
def dkwX0_keeps_2 : List UInt8 := [46, 4, 96, 79, 42, 3, 181, 0, 24, 177]
abbrev dktX0_keeps_2 : List UInt8 := dkwX0_keeps_2 ++ []
def dkwX0_keeps_1 : List UInt8 := [183, 0, 17, 167, 0, 14, 187, 0, 21, 89, 28, 29, 21, 4, 183, 0, 23, 83, 42, 180, 0, 11, 27, 92]
abbrev dktX0_keeps_1 : List UInt8 := dkwX0_keeps_1 ++ dktX0_keeps_2
def dkwX0_keeps_0 : List UInt8 := [42, 180, 0, 7, 27, 50, 42, 180, 0, 11, 27, 46, 27, 154, 0, 17, 187, 0, 15, 89, 28, 29, 21, 4]
abbrev dktX0_keeps_0 : List UInt8 := dkwX0_keeps_0 ++ dktX0_keeps_1
theorem dksX0_keeps_0 : cX0_keeps.data.toList.drop 0 = dktX0_keeps_0 := by decide +kernel
theorem dksX0_keeps_1 : cX0_keeps.data.toList.drop 24 = dktX0_keeps_1 := dk_seg dksX0_keeps_0 24 rfl rfl
theorem dksX0_keeps_2 : cX0_keeps.data.toList.drop 48 = dktX0_keeps_2 := dk_seg dksX0_keeps_1 24 rfl rfl
theorem dX0_keeps_0 : decode cX0_keeps 0 = .ok (.aload_n 0, 1) := dk_42 (dk_at dksX0_keeps_0 0 rfl rfl)
theorem dX0_keeps_1 : decode cX0_keeps 1 = .ok (.getfield 7, 3) := dk_180 0 7 (dk_at dksX0_keeps_0 1 rfl rfl)
theorem dX0_keeps_4 : decode cX0_keeps 4 = .ok (.iload_n 1, 1) := dk_27 (dk_at dksX0_keeps_0 4 rfl rfl)
theorem dX0_keeps_5 : decode cX0_keeps 5 = .ok (.aaload, 1) := dk_50 (dk_at dksX0_keeps_0 5 rfl rfl)
theorem dX0_keeps_6 : decode cX0_keeps 6 = .ok (.aload_n 0, 1) := dk_42 (dk_at dksX0_keeps_0 6 rfl rfl)
theorem dX0_keeps_7 : decode cX0_keeps 7 = .ok (.getfield 11, 3) := dk_180 0 11 (dk_at dksX0_keeps_0 7 rfl rfl)
theorem dX0_keeps_10 : decode cX0_keeps 10 = .ok (.iload_n 1, 1) := dk_27 (dk_at dksX0_keeps_0 10 rfl rfl)
theorem dX0_keeps_11 : decode cX0_keeps 11 = .ok (.iaload, 1) := dk_46 (dk_at dksX0_keeps_0 11 rfl rfl)
theorem dX0_keeps_12 : decode cX0_keeps 12 = .ok (.iload_n 1, 1) := dk_27 (dk_at dksX0_keeps_0 12 rfl rfl)
theorem dX0_keeps_13 : decode cX0_keeps 13 = .ok (.ifCond .ne 17, 3) := dk_154 0 17 (dk_at dksX0_keeps_0 13 rfl rfl)
theorem dX0_keeps_16 : decode cX0_keeps 16 = .ok (.new 15, 3) := dk_187 0 15 (dk_at dksX0_keeps_0 16 rfl rfl)
theorem dX0_keeps_19 : decode cX0_keeps 19 = .ok (.dup, 1) := dk_89 (dk_at dksX0_keeps_0 19 rfl rfl)
theorem dX0_keeps_20 : decode cX0_keeps 20 = .ok (.iload_n 2, 1) := dk_28 (dk_at dksX0_keeps_0 20 rfl rfl)
theorem dX0_keeps_21 : decode cX0_keeps 21 = .ok (.iload_n 3, 1) := dk_29 (dk_at dksX0_keeps_0 21 rfl rfl)
theorem dX0_keeps_22 : decode cX0_keeps 22 = .ok (.iload 4, 2) := dk_21 4 (dk_at dksX0_keeps_0 22 rfl rfl)
theorem dX0_keeps_24 : decode cX0_keeps 24 = .ok (.invokespecial 17, 3) := dk_183 0 17 (dk_at dksX0_keeps_1 0 rfl rfl)
theorem dX0_keeps_27 : decode cX0_keeps 27 = .ok (.goto 14, 3) := dk_167 0 14 (dk_at dksX0_keeps_1 3 rfl rfl)
theorem dX0_keeps_30 : decode cX0_keeps 30 = .ok (.new 21, 3) := dk_187 0 21 (dk_at dksX0_keeps_1 6 rfl rfl)
theorem dX0_keeps_33 : decode cX0_keeps 33 = .ok (.dup, 1) := dk_89 (dk_at dksX0_keeps_1 9 rfl rfl)
theorem dX0_keeps_34 : decode cX0_keeps 34 = .ok (.iload_n 2, 1) := dk_28 (dk_at dksX0_keeps_1 10 rfl rfl)
theorem dX0_keeps_35 : decode cX0_keeps 35 = .ok (.iload_n 3, 1) := dk_29 (dk_at dksX0_keeps_1 11 rfl rfl)
theorem dX0_keeps_36 : decode cX0_keeps 36 = .ok (.iload 4, 2) := dk_21 4 (dk_at dksX0_keeps_1 12 rfl rfl)
theorem dX0_keeps_38 : decode cX0_keeps 38 = .ok (.invokespecial 23, 3) := dk_183 0 23 (dk_at dksX0_keeps_1 14 rfl rfl)
theorem dX0_keeps_41 : decode cX0_keeps 41 = .ok (.aastore, 1) := dk_83 (dk_at dksX0_keeps_1 17 rfl rfl)
theorem dX0_keeps_42 : decode cX0_keeps 42 = .ok (.aload_n 0, 1) := dk_42 (dk_at dksX0_keeps_1 18 rfl rfl)
theorem dX0_keeps_43 : decode cX0_keeps 43 = .ok (.getfield 11, 3) := dk_180 0 11 (dk_at dksX0_keeps_1 19 rfl rfl)
theorem dX0_keeps_46 : decode cX0_keeps 46 = .ok (.iload_n 1, 1) := dk_27 (dk_at dksX0_keeps_1 22 rfl rfl)
theorem dX0_keeps_47 : decode cX0_keeps 47 = .ok (.dup2, 1) := dk_92 (dk_at dksX0_keeps_1 23 rfl rfl)
theorem dX0_keeps_48 : decode cX0_keeps 48 = .ok (.iaload, 1) := dk_46 (dk_at dksX0_keeps_2 0 rfl rfl)
theorem dX0_keeps_49 : decode cX0_keeps 49 = .ok (.iconst 1, 1) := dk_4 (dk_at dksX0_keeps_2 1 rfl rfl)
theorem dX0_keeps_50 : decode cX0_keeps 50 = .ok (.iadd, 1) := dk_96 (dk_at dksX0_keeps_2 2 rfl rfl)
theorem dX0_keeps_51 : decode cX0_keeps 51 = .ok (.iastore, 1) := dk_79 (dk_at dksX0_keeps_2 3 rfl rfl)
theorem dX0_keeps_52 : decode cX0_keeps 52 = .ok (.aload_n 0, 1) := dk_42 (dk_at dksX0_keeps_2 4 rfl rfl)
theorem dX0_keeps_53 : decode cX0_keeps 53 = .ok (.iconst 0, 1) := dk_3 (dk_at dksX0_keeps_2 5 rfl rfl)
theorem dX0_keeps_54 : decode cX0_keeps 54 = .ok (.putfield 24, 3) := dk_181 0 24 (dk_at dksX0_keeps_2 6 rfl rfl)
theorem dX0_keeps_57 : decode cX0_keeps 57 = .ok (.return_, 1) := dk_177 (dk_at dksX0_keeps_2 9 rfl rfl)
abbrev cX0_back : ByteArray := prog_1_method_12_code
def yX0_back : MethodName := ⟨RX0, "back", "(I)I"⟩
def dkwX0_back_1 : List UInt8 := [180, 0, 11, 27, 92, 46, 4, 100, 79, 42, 3, 181, 0, 24, 42, 180, 0, 11, 27, 46, 172]
abbrev dktX0_back_1 : List UInt8 := dkwX0_back_1 ++ []
def dkwX0_back_0 : List UInt8 := [27, 184, 0, 35, 154, 0, 6, 16, 254, 172, 42, 180, 0, 11, 27, 46, 154, 0, 6, 16, 253, 172, 42]
abbrev dktX0_back_0 : List UInt8 := dkwX0_back_0 ++ dktX0_back_1
theorem dksX0_back_0 : cX0_back.data.toList.drop 0 = dktX0_back_0 := by decide +kernel
theorem dksX0_back_1 : cX0_back.data.toList.drop 23 = dktX0_back_1 := dk_seg dksX0_back_0 23 rfl rfl
theorem dX0_back_0 : decode cX0_back 0 = .ok (.iload_n 1, 1) := dk_27 (dk_at dksX0_back_0 0 rfl rfl)
theorem dX0_back_1 : decode cX0_back 1 = .ok (.invokestatic 35, 3) := dk_184 0 35 (dk_at dksX0_back_0 1 rfl rfl)
theorem dX0_back_4 : decode cX0_back 4 = .ok (.ifCond .ne 6, 3) := dk_154 0 6 (dk_at dksX0_back_0 4 rfl rfl)
theorem dX0_back_7 : decode cX0_back 7 = .ok (.bipush (-2), 2) := dk_16 254 (dk_at dksX0_back_0 7 rfl rfl)
theorem dX0_back_9 : decode cX0_back 9 = .ok (.ireturn, 1) := dk_172 (dk_at dksX0_back_0 9 rfl rfl)
theorem dX0_back_10 : decode cX0_back 10 = .ok (.aload_n 0, 1) := dk_42 (dk_at dksX0_back_0 10 rfl rfl)
theorem dX0_back_11 : decode cX0_back 11 = .ok (.getfield 11, 3) := dk_180 0 11 (dk_at dksX0_back_0 11 rfl rfl)
theorem dX0_back_14 : decode cX0_back 14 = .ok (.iload_n 1, 1) := dk_27 (dk_at dksX0_back_0 14 rfl rfl)
theorem dX0_back_15 : decode cX0_back 15 = .ok (.iaload, 1) := dk_46 (dk_at dksX0_back_0 15 rfl rfl)
theorem dX0_back_16 : decode cX0_back 16 = .ok (.ifCond .ne 6, 3) := dk_154 0 6 (dk_at dksX0_back_0 16 rfl rfl)
theorem dX0_back_19 : decode cX0_back 19 = .ok (.bipush (-3), 2) := dk_16 253 (dk_at dksX0_back_0 19 rfl rfl)
theorem dX0_back_21 : decode cX0_back 21 = .ok (.ireturn, 1) := dk_172 (dk_at dksX0_back_0 21 rfl rfl)
theorem dX0_back_22 : decode cX0_back 22 = .ok (.aload_n 0, 1) := dk_42 (dk_at dksX0_back_0 22 rfl rfl)
theorem dX0_back_23 : decode cX0_back 23 = .ok (.getfield 11, 3) := dk_180 0 11 (dk_at dksX0_back_1 0 rfl rfl)
theorem dX0_back_26 : decode cX0_back 26 = .ok (.iload_n 1, 1) := dk_27 (dk_at dksX0_back_1 3 rfl rfl)
theorem dX0_back_27 : decode cX0_back 27 = .ok (.dup2, 1) := dk_92 (dk_at dksX0_back_1 4 rfl rfl)
theorem dX0_back_28 : decode cX0_back 28 = .ok (.iaload, 1) := dk_46 (dk_at dksX0_back_1 5 rfl rfl)
theorem dX0_back_29 : decode cX0_back 29 = .ok (.iconst 1, 1) := dk_4 (dk_at dksX0_back_1 6 rfl rfl)
theorem dX0_back_30 : decode cX0_back 30 = .ok (.isub, 1) := dk_100 (dk_at dksX0_back_1 7 rfl rfl)
theorem dX0_back_31 : decode cX0_back 31 = .ok (.iastore, 1) := dk_79 (dk_at dksX0_back_1 8 rfl rfl)
theorem dX0_back_32 : decode cX0_back 32 = .ok (.aload_n 0, 1) := dk_42 (dk_at dksX0_back_1 9 rfl rfl)
theorem dX0_back_33 : decode cX0_back 33 = .ok (.iconst 0, 1) := dk_3 (dk_at dksX0_back_1 10 rfl rfl)
theorem dX0_back_34 : decode cX0_back 34 = .ok (.putfield 24, 3) := dk_181 0 24 (dk_at dksX0_back_1 11 rfl rfl)
theorem dX0_back_37 : decode cX0_back 37 = .ok (.aload_n 0, 1) := dk_42 (dk_at dksX0_back_1 14 rfl rfl)
theorem dX0_back_38 : decode cX0_back 38 = .ok (.getfield 11, 3) := dk_180 0 11 (dk_at dksX0_back_1 15 rfl rfl)
theorem dX0_back_41 : decode cX0_back 41 = .ok (.iload_n 1, 1) := dk_27 (dk_at dksX0_back_1 18 rfl rfl)
theorem dX0_back_42 : decode cX0_back 42 = .ok (.iaload, 1) := dk_46 (dk_at dksX0_back_1 19 rfl rfl)
theorem dX0_back_43 : decode cX0_back 43 = .ok (.ireturn, 1) := dk_172 (dk_at dksX0_back_1 20 rfl rfl)
abbrev cX0_at : ByteArray := prog_1_method_14_code
def yX0_at : MethodName := ⟨RX0, "at", "(III)I"⟩
def dkwX0_at_1 : List UInt8 := [29, 182, 0, 50, 167, 0, 5, 18, 56, 172]
abbrev dktX0_at_1 : List UInt8 := dkwX0_at_1 ++ []
def dkwX0_at_0 : List UInt8 := [42, 27, 28, 182, 0, 43, 153, 0, 25, 29, 184, 0, 47, 153, 0, 18, 42, 180, 0, 7, 27, 50, 28, 50]
abbrev dktX0_at_0 : List UInt8 := dkwX0_at_0 ++ dktX0_at_1
theorem dksX0_at_0 : cX0_at.data.toList.drop 0 = dktX0_at_0 := by decide +kernel
theorem dksX0_at_1 : cX0_at.data.toList.drop 24 = dktX0_at_1 := dk_seg dksX0_at_0 24 rfl rfl
theorem dX0_at_0 : decode cX0_at 0 = .ok (.aload_n 0, 1) := dk_42 (dk_at dksX0_at_0 0 rfl rfl)
theorem dX0_at_1 : decode cX0_at 1 = .ok (.iload_n 1, 1) := dk_27 (dk_at dksX0_at_0 1 rfl rfl)
theorem dX0_at_2 : decode cX0_at 2 = .ok (.iload_n 2, 1) := dk_28 (dk_at dksX0_at_0 2 rfl rfl)
theorem dX0_at_3 : decode cX0_at 3 = .ok (.invokevirtual 43, 3) := dk_182 0 43 (dk_at dksX0_at_0 3 rfl rfl)
theorem dX0_at_6 : decode cX0_at 6 = .ok (.ifCond .eq 25, 3) := dk_153 0 25 (dk_at dksX0_at_0 6 rfl rfl)
theorem dX0_at_9 : decode cX0_at 9 = .ok (.iload_n 3, 1) := dk_29 (dk_at dksX0_at_0 9 rfl rfl)
theorem dX0_at_10 : decode cX0_at 10 = .ok (.invokestatic 47, 3) := dk_184 0 47 (dk_at dksX0_at_0 10 rfl rfl)
theorem dX0_at_13 : decode cX0_at 13 = .ok (.ifCond .eq 18, 3) := dk_153 0 18 (dk_at dksX0_at_0 13 rfl rfl)
theorem dX0_at_16 : decode cX0_at 16 = .ok (.aload_n 0, 1) := dk_42 (dk_at dksX0_at_0 16 rfl rfl)
theorem dX0_at_17 : decode cX0_at 17 = .ok (.getfield 7, 3) := dk_180 0 7 (dk_at dksX0_at_0 17 rfl rfl)
theorem dX0_at_20 : decode cX0_at 20 = .ok (.iload_n 1, 1) := dk_27 (dk_at dksX0_at_0 20 rfl rfl)
theorem dX0_at_21 : decode cX0_at 21 = .ok (.aaload, 1) := dk_50 (dk_at dksX0_at_0 21 rfl rfl)
theorem dX0_at_22 : decode cX0_at 22 = .ok (.iload_n 2, 1) := dk_28 (dk_at dksX0_at_0 22 rfl rfl)
theorem dX0_at_23 : decode cX0_at 23 = .ok (.aaload, 1) := dk_50 (dk_at dksX0_at_0 23 rfl rfl)
theorem dX0_at_24 : decode cX0_at 24 = .ok (.iload_n 3, 1) := dk_29 (dk_at dksX0_at_1 0 rfl rfl)
theorem dX0_at_25 : decode cX0_at 25 = .ok (.invokevirtual 50, 3) := dk_182 0 50 (dk_at dksX0_at_1 1 rfl rfl)
theorem dX0_at_28 : decode cX0_at 28 = .ok (.goto 5, 3) := dk_167 0 5 (dk_at dksX0_at_1 4 rfl rfl)
theorem dX0_at_31 : decode cX0_at 31 = .ok (.ldc 56, 2) := dk_18 56 (dk_at dksX0_at_1 7 rfl rfl)
theorem dX0_at_33 : decode cX0_at 33 = .ok (.ireturn, 1) := dk_172 (dk_at dksX0_at_1 9 rfl rfl)
abbrev cX0_isBody : ByteArray := prog_1_method_13_code
def yX0_isBody : MethodName := ⟨RX0, "isBody", "(II)Z"⟩
def dkwX0_isBody_1 : List UInt8 := [167, 0, 4, 3, 172]
abbrev dktX0_isBody_1 : List UInt8 := dkwX0_isBody_1 ++ []
def dkwX0_isBody_0 : List UInt8 := [27, 184, 0, 35, 153, 0, 23, 28, 3, 42, 180, 0, 11, 27, 46, 4, 100, 184, 0, 1, 153, 0, 7, 4]
abbrev dktX0_isBody_0 : List UInt8 := dkwX0_isBody_0 ++ dktX0_isBody_1
theorem dksX0_isBody_0 : cX0_isBody.data.toList.drop 0 = dktX0_isBody_0 := by decide +kernel
theorem dksX0_isBody_1 : cX0_isBody.data.toList.drop 24 = dktX0_isBody_1 := dk_seg dksX0_isBody_0 24 rfl rfl
theorem dX0_isBody_0 : decode cX0_isBody 0 = .ok (.iload_n 1, 1) := dk_27 (dk_at dksX0_isBody_0 0 rfl rfl)
theorem dX0_isBody_1 : decode cX0_isBody 1 = .ok (.invokestatic 35, 3) := dk_184 0 35 (dk_at dksX0_isBody_0 1 rfl rfl)
theorem dX0_isBody_4 : decode cX0_isBody 4 = .ok (.ifCond .eq 23, 3) := dk_153 0 23 (dk_at dksX0_isBody_0 4 rfl rfl)
theorem dX0_isBody_7 : decode cX0_isBody 7 = .ok (.iload_n 2, 1) := dk_28 (dk_at dksX0_isBody_0 7 rfl rfl)
theorem dX0_isBody_8 : decode cX0_isBody 8 = .ok (.iconst 0, 1) := dk_3 (dk_at dksX0_isBody_0 8 rfl rfl)
theorem dX0_isBody_9 : decode cX0_isBody 9 = .ok (.aload_n 0, 1) := dk_42 (dk_at dksX0_isBody_0 9 rfl rfl)
theorem dX0_isBody_10 : decode cX0_isBody 10 = .ok (.getfield 11, 3) := dk_180 0 11 (dk_at dksX0_isBody_0 10 rfl rfl)
theorem dX0_isBody_13 : decode cX0_isBody 13 = .ok (.iload_n 1, 1) := dk_27 (dk_at dksX0_isBody_0 13 rfl rfl)
theorem dX0_isBody_14 : decode cX0_isBody 14 = .ok (.iaload, 1) := dk_46 (dk_at dksX0_isBody_0 14 rfl rfl)
theorem dX0_isBody_15 : decode cX0_isBody 15 = .ok (.iconst 1, 1) := dk_4 (dk_at dksX0_isBody_0 15 rfl rfl)
theorem dX0_isBody_16 : decode cX0_isBody 16 = .ok (.isub, 1) := dk_100 (dk_at dksX0_isBody_0 16 rfl rfl)
theorem dX0_isBody_17 : decode cX0_isBody 17 = .ok (.invokestatic 1, 3) := dk_184 0 1 (dk_at dksX0_isBody_0 17 rfl rfl)
theorem dX0_isBody_20 : decode cX0_isBody 20 = .ok (.ifCond .eq 7, 3) := dk_153 0 7 (dk_at dksX0_isBody_0 20 rfl rfl)
theorem dX0_isBody_23 : decode cX0_isBody 23 = .ok (.iconst 1, 1) := dk_4 (dk_at dksX0_isBody_0 23 rfl rfl)
theorem dX0_isBody_24 : decode cX0_isBody 24 = .ok (.goto 4, 3) := dk_167 0 4 (dk_at dksX0_isBody_1 0 rfl rfl)
theorem dX0_isBody_27 : decode cX0_isBody 27 = .ok (.iconst 0, 1) := dk_3 (dk_at dksX0_isBody_1 3 rfl rfl)
theorem dX0_isBody_28 : decode cX0_isBody 28 = .ok (.ireturn, 1) := dk_172 (dk_at dksX0_isBody_1 4 rfl rfl)
abbrev cX0_isThree : ByteArray := prog_1_method_3_code
def yX0_isThree : MethodName := ⟨RX0, "isThree", "(I)Z"⟩
def dkwX0_isThree_0 : List UInt8 := [26, 3, 5, 184, 0, 1, 172]
abbrev dktX0_isThree_0 : List UInt8 := dkwX0_isThree_0 ++ []
theorem dksX0_isThree_0 : cX0_isThree.data.toList.drop 0 = dktX0_isThree_0 := by decide +kernel
theorem dX0_isThree_0 : decode cX0_isThree 0 = .ok (.iload_n 0, 1) := dk_26 (dk_at dksX0_isThree_0 0 rfl rfl)
theorem dX0_isThree_1 : decode cX0_isThree 1 = .ok (.iconst 0, 1) := dk_3 (dk_at dksX0_isThree_0 1 rfl rfl)
theorem dX0_isThree_2 : decode cX0_isThree 2 = .ok (.iconst 2, 1) := dk_5 (dk_at dksX0_isThree_0 2 rfl rfl)
theorem dX0_isThree_3 : decode cX0_isThree 3 = .ok (.invokestatic 1, 3) := dk_184 0 1 (dk_at dksX0_isThree_0 3 rfl rfl)
theorem dX0_isThree_6 : decode cX0_isThree 6 = .ok (.ireturn, 1) := dk_172 (dk_at dksX0_isThree_0 6 rfl rfl)
abbrev cX0_read : ByteArray := prog_1_method_15_code
def yX0_read : MethodName := ⟨RX0, "read", "(II)I"⟩
def dkwX0_read_4 : List UInt8 := [167, 255, 204, 21, 4, 172]
abbrev dktX0_read_4 : List UInt8 := dkwX0_read_4 ++ []
def dkwX0_read_3 : List UInt8 := [182, 0, 77, 45, 6, 21, 4, 104, 5, 96, 182, 0, 77, 182, 0, 39, 158, 0, 9, 132, 4, 1]
abbrev dktX0_read_3 : List UInt8 := dkwX0_read_3 ++ dktX0_read_4
def dkwX0_read_2 : List UInt8 := [182, 0, 73, 162, 0, 45, 42, 27, 45, 6, 21, 4, 104, 182, 0, 77, 45, 6, 21, 4, 104, 4, 96]
abbrev dktX0_read_2 : List UInt8 := dkwX0_read_2 ++ dktX0_read_3
def dkwX0_read_1 : List UInt8 := [45, 180, 0, 64, 199, 0, 9, 42, 4, 182, 0, 70, 172, 3, 54, 4, 6, 21, 4, 104, 5, 96, 45]
abbrev dktX0_read_1 : List UInt8 := dkwX0_read_1 ++ dktX0_read_2
def dkwX0_read_0 : List UInt8 := [27, 184, 0, 35, 153, 0, 10, 28, 184, 0, 57, 154, 0, 6, 16, 254, 172, 42, 180, 0, 60, 28, 50, 78]
abbrev dktX0_read_0 : List UInt8 := dkwX0_read_0 ++ dktX0_read_1
theorem dksX0_read_0 : cX0_read.data.toList.drop 0 = dktX0_read_0 := by decide +kernel
theorem dksX0_read_1 : cX0_read.data.toList.drop 24 = dktX0_read_1 := dk_seg dksX0_read_0 24 rfl rfl
theorem dksX0_read_2 : cX0_read.data.toList.drop 47 = dktX0_read_2 := dk_seg dksX0_read_1 23 rfl rfl
theorem dksX0_read_3 : cX0_read.data.toList.drop 70 = dktX0_read_3 := dk_seg dksX0_read_2 23 rfl rfl
theorem dksX0_read_4 : cX0_read.data.toList.drop 92 = dktX0_read_4 := dk_seg dksX0_read_3 22 rfl rfl
theorem dX0_read_0 : decode cX0_read 0 = .ok (.iload_n 1, 1) := dk_27 (dk_at dksX0_read_0 0 rfl rfl)
theorem dX0_read_1 : decode cX0_read 1 = .ok (.invokestatic 35, 3) := dk_184 0 35 (dk_at dksX0_read_0 1 rfl rfl)
theorem dX0_read_4 : decode cX0_read 4 = .ok (.ifCond .eq 10, 3) := dk_153 0 10 (dk_at dksX0_read_0 4 rfl rfl)
theorem dX0_read_7 : decode cX0_read 7 = .ok (.iload_n 2, 1) := dk_28 (dk_at dksX0_read_0 7 rfl rfl)
theorem dX0_read_8 : decode cX0_read 8 = .ok (.invokestatic 57, 3) := dk_184 0 57 (dk_at dksX0_read_0 8 rfl rfl)
theorem dX0_read_11 : decode cX0_read 11 = .ok (.ifCond .ne 6, 3) := dk_154 0 6 (dk_at dksX0_read_0 11 rfl rfl)
theorem dX0_read_14 : decode cX0_read 14 = .ok (.bipush (-2), 2) := dk_16 254 (dk_at dksX0_read_0 14 rfl rfl)
theorem dX0_read_16 : decode cX0_read 16 = .ok (.ireturn, 1) := dk_172 (dk_at dksX0_read_0 16 rfl rfl)
theorem dX0_read_17 : decode cX0_read 17 = .ok (.aload_n 0, 1) := dk_42 (dk_at dksX0_read_0 17 rfl rfl)
theorem dX0_read_18 : decode cX0_read 18 = .ok (.getfield 60, 3) := dk_180 0 60 (dk_at dksX0_read_0 18 rfl rfl)
theorem dX0_read_21 : decode cX0_read 21 = .ok (.iload_n 2, 1) := dk_28 (dk_at dksX0_read_0 21 rfl rfl)
theorem dX0_read_22 : decode cX0_read 22 = .ok (.aaload, 1) := dk_50 (dk_at dksX0_read_0 22 rfl rfl)
theorem dX0_read_23 : decode cX0_read 23 = .ok (.astore_n 3, 1) := dk_78 (dk_at dksX0_read_0 23 rfl rfl)
theorem dX0_read_24 : decode cX0_read 24 = .ok (.aload_n 3, 1) := dk_45 (dk_at dksX0_read_1 0 rfl rfl)
theorem dX0_read_25 : decode cX0_read 25 = .ok (.getfield 64, 3) := dk_180 0 64 (dk_at dksX0_read_1 1 rfl rfl)
theorem dX0_read_28 : decode cX0_read 28 = .ok (.ifnonnull 9, 3) := dk_199 0 9 (dk_at dksX0_read_1 4 rfl rfl)
theorem dX0_read_31 : decode cX0_read 31 = .ok (.aload_n 0, 1) := dk_42 (dk_at dksX0_read_1 7 rfl rfl)
theorem dX0_read_32 : decode cX0_read 32 = .ok (.iconst 1, 1) := dk_4 (dk_at dksX0_read_1 8 rfl rfl)
theorem dX0_read_33 : decode cX0_read 33 = .ok (.invokevirtual 70, 3) := dk_182 0 70 (dk_at dksX0_read_1 9 rfl rfl)
theorem dX0_read_36 : decode cX0_read 36 = .ok (.ireturn, 1) := dk_172 (dk_at dksX0_read_1 12 rfl rfl)
theorem dX0_read_37 : decode cX0_read 37 = .ok (.iconst 0, 1) := dk_3 (dk_at dksX0_read_1 13 rfl rfl)
theorem dX0_read_38 : decode cX0_read 38 = .ok (.istore 4, 2) := dk_54 4 (dk_at dksX0_read_1 14 rfl rfl)
theorem dX0_read_40 : decode cX0_read 40 = .ok (.iconst 3, 1) := dk_6 (dk_at dksX0_read_1 16 rfl rfl)
theorem dX0_read_41 : decode cX0_read 41 = .ok (.iload 4, 2) := dk_21 4 (dk_at dksX0_read_1 17 rfl rfl)
theorem dX0_read_43 : decode cX0_read 43 = .ok (.imul, 1) := dk_104 (dk_at dksX0_read_1 19 rfl rfl)
theorem dX0_read_44 : decode cX0_read 44 = .ok (.iconst 2, 1) := dk_5 (dk_at dksX0_read_1 20 rfl rfl)
theorem dX0_read_45 : decode cX0_read 45 = .ok (.iadd, 1) := dk_96 (dk_at dksX0_read_1 21 rfl rfl)
theorem dX0_read_46 : decode cX0_read 46 = .ok (.aload_n 3, 1) := dk_45 (dk_at dksX0_read_1 22 rfl rfl)
theorem dX0_read_47 : decode cX0_read 47 = .ok (.invokevirtual 73, 3) := dk_182 0 73 (dk_at dksX0_read_2 0 rfl rfl)
theorem dX0_read_50 : decode cX0_read 50 = .ok (.if_icmp .ge 45, 3) := dk_162 0 45 (dk_at dksX0_read_2 3 rfl rfl)
theorem dX0_read_53 : decode cX0_read 53 = .ok (.aload_n 0, 1) := dk_42 (dk_at dksX0_read_2 6 rfl rfl)
theorem dX0_read_54 : decode cX0_read 54 = .ok (.iload_n 1, 1) := dk_27 (dk_at dksX0_read_2 7 rfl rfl)
theorem dX0_read_55 : decode cX0_read 55 = .ok (.aload_n 3, 1) := dk_45 (dk_at dksX0_read_2 8 rfl rfl)
theorem dX0_read_56 : decode cX0_read 56 = .ok (.iconst 3, 1) := dk_6 (dk_at dksX0_read_2 9 rfl rfl)
theorem dX0_read_57 : decode cX0_read 57 = .ok (.iload 4, 2) := dk_21 4 (dk_at dksX0_read_2 10 rfl rfl)
theorem dX0_read_59 : decode cX0_read 59 = .ok (.imul, 1) := dk_104 (dk_at dksX0_read_2 12 rfl rfl)
theorem dX0_read_60 : decode cX0_read 60 = .ok (.invokevirtual 77, 3) := dk_182 0 77 (dk_at dksX0_read_2 13 rfl rfl)
theorem dX0_read_63 : decode cX0_read 63 = .ok (.aload_n 3, 1) := dk_45 (dk_at dksX0_read_2 16 rfl rfl)
theorem dX0_read_64 : decode cX0_read 64 = .ok (.iconst 3, 1) := dk_6 (dk_at dksX0_read_2 17 rfl rfl)
theorem dX0_read_65 : decode cX0_read 65 = .ok (.iload 4, 2) := dk_21 4 (dk_at dksX0_read_2 18 rfl rfl)
theorem dX0_read_67 : decode cX0_read 67 = .ok (.imul, 1) := dk_104 (dk_at dksX0_read_2 20 rfl rfl)
theorem dX0_read_68 : decode cX0_read 68 = .ok (.iconst 1, 1) := dk_4 (dk_at dksX0_read_2 21 rfl rfl)
theorem dX0_read_69 : decode cX0_read 69 = .ok (.iadd, 1) := dk_96 (dk_at dksX0_read_2 22 rfl rfl)
theorem dX0_read_70 : decode cX0_read 70 = .ok (.invokevirtual 77, 3) := dk_182 0 77 (dk_at dksX0_read_3 0 rfl rfl)
theorem dX0_read_73 : decode cX0_read 73 = .ok (.aload_n 3, 1) := dk_45 (dk_at dksX0_read_3 3 rfl rfl)
theorem dX0_read_74 : decode cX0_read 74 = .ok (.iconst 3, 1) := dk_6 (dk_at dksX0_read_3 4 rfl rfl)
theorem dX0_read_75 : decode cX0_read 75 = .ok (.iload 4, 2) := dk_21 4 (dk_at dksX0_read_3 5 rfl rfl)
theorem dX0_read_77 : decode cX0_read 77 = .ok (.imul, 1) := dk_104 (dk_at dksX0_read_3 7 rfl rfl)
theorem dX0_read_78 : decode cX0_read 78 = .ok (.iconst 2, 1) := dk_5 (dk_at dksX0_read_3 8 rfl rfl)
theorem dX0_read_79 : decode cX0_read 79 = .ok (.iadd, 1) := dk_96 (dk_at dksX0_read_3 9 rfl rfl)
theorem dX0_read_80 : decode cX0_read 80 = .ok (.invokevirtual 77, 3) := dk_182 0 77 (dk_at dksX0_read_3 10 rfl rfl)
theorem dX0_read_83 : decode cX0_read 83 = .ok (.invokevirtual 39, 3) := dk_182 0 39 (dk_at dksX0_read_3 13 rfl rfl)
theorem dX0_read_86 : decode cX0_read 86 = .ok (.ifCond .le 9, 3) := dk_158 0 9 (dk_at dksX0_read_3 16 rfl rfl)
theorem dX0_read_89 : decode cX0_read 89 = .ok (.iinc 4 1, 3) := dk_132 4 1 (dk_at dksX0_read_3 19 rfl rfl)
theorem dX0_read_92 : decode cX0_read 92 = .ok (.goto (-52), 3) := dk_167 255 204 (dk_at dksX0_read_4 0 rfl rfl)
theorem dX0_read_95 : decode cX0_read 95 = .ok (.iload 4, 2) := dk_21 4 (dk_at dksX0_read_4 3 rfl rfl)
theorem dX0_read_97 : decode cX0_read 97 = .ok (.ireturn, 1) := dk_172 (dk_at dksX0_read_4 5 rfl rfl)
abbrev cX0_isSheet : ByteArray := prog_1_method_75_code
def yX0_isSheet : MethodName := ⟨RX0, "isSheet", "(I)Z"⟩
def dkwX0_isSheet_0 : List UInt8 := [26, 3, 6, 184, 0, 1, 172]
abbrev dktX0_isSheet_0 : List UInt8 := dkwX0_isSheet_0 ++ []
theorem dksX0_isSheet_0 : cX0_isSheet.data.toList.drop 0 = dktX0_isSheet_0 := by decide +kernel
theorem dX0_isSheet_0 : decode cX0_isSheet 0 = .ok (.iload_n 0, 1) := dk_26 (dk_at dksX0_isSheet_0 0 rfl rfl)
theorem dX0_isSheet_1 : decode cX0_isSheet 1 = .ok (.iconst 0, 1) := dk_3 (dk_at dksX0_isSheet_0 1 rfl rfl)
theorem dX0_isSheet_2 : decode cX0_isSheet 2 = .ok (.iconst 3, 1) := dk_6 (dk_at dksX0_isSheet_0 2 rfl rfl)
theorem dX0_isSheet_3 : decode cX0_isSheet 3 = .ok (.invokestatic 1, 3) := dk_184 0 1 (dk_at dksX0_isSheet_0 3 rfl rfl)
theorem dX0_isSheet_6 : decode cX0_isSheet 6 = .ok (.ireturn, 1) := dk_172 (dk_at dksX0_isSheet_0 6 rfl rfl)
abbrev cX0_refuses : ByteArray := prog_1_method_74_code
def yX0_refuses : MethodName := ⟨RX0, "refuses", "(I)I"⟩
def dkwX0_refuses_0 : List UInt8 := [42, 27, 181, 1, 141, 16, 246, 27, 100, 172]
abbrev dktX0_refuses_0 : List UInt8 := dkwX0_refuses_0 ++ []
theorem dksX0_refuses_0 : cX0_refuses.data.toList.drop 0 = dktX0_refuses_0 := by decide +kernel
theorem dX0_refuses_0 : decode cX0_refuses 0 = .ok (.aload_n 0, 1) := dk_42 (dk_at dksX0_refuses_0 0 rfl rfl)
theorem dX0_refuses_1 : decode cX0_refuses 1 = .ok (.iload_n 1, 1) := dk_27 (dk_at dksX0_refuses_0 1 rfl rfl)
theorem dX0_refuses_2 : decode cX0_refuses 2 = .ok (.putfield 397, 3) := dk_181 1 141 (dk_at dksX0_refuses_0 2 rfl rfl)
theorem dX0_refuses_5 : decode cX0_refuses 5 = .ok (.bipush (-10), 2) := dk_16 246 (dk_at dksX0_refuses_0 5 rfl rfl)
theorem dX0_refuses_7 : decode cX0_refuses 7 = .ok (.iload_n 1, 1) := dk_27 (dk_at dksX0_refuses_0 7 rfl rfl)
theorem dX0_refuses_8 : decode cX0_refuses 8 = .ok (.isub, 1) := dk_100 (dk_at dksX0_refuses_0 8 rfl rfl)
theorem dX0_refuses_9 : decode cX0_refuses 9 = .ok (.ireturn, 1) := dk_172 (dk_at dksX0_refuses_0 9 rfl rfl)
abbrev cX0_taken : ByteArray := prog_1_method_80_code
def yX0_taken : MethodName := ⟨RX0, "taken", "(Ljava/lang/Object;II)I"⟩
def dkwX0_taken_2 : List UInt8 := [42, 192, 1, 153, 28, 51, 172, 42, 192, 1, 155, 28, 53, 172, 42, 192, 1, 157, 28, 46, 172]
abbrev dktX0_taken_2 : List UInt8 := dkwX0_taken_2 ++ []
def dkwX0_taken_1 : List UInt8 := [171, 0, 0, 0, 0, 0, 41, 0, 0, 0, 2, 0, 0, 0, 0, 0, 0, 0, 27, 0, 0, 0, 1, 0, 0, 0, 34]
abbrev dktX0_taken_1 : List UInt8 := dkwX0_taken_1 ++ dktX0_taken_2
def dkwX0_taken_0 : List UInt8 := [27]
abbrev dktX0_taken_0 : List UInt8 := dkwX0_taken_0 ++ dktX0_taken_1
theorem dksX0_taken_0 : cX0_taken.data.toList.drop 0 = dktX0_taken_0 := by decide +kernel
theorem dksX0_taken_1 : cX0_taken.data.toList.drop 1 = dktX0_taken_1 := dk_seg dksX0_taken_0 1 rfl rfl
theorem dksX0_taken_2 : cX0_taken.data.toList.drop 28 = dktX0_taken_2 := dk_seg dksX0_taken_1 27 rfl rfl
theorem dX0_taken_0 : decode cX0_taken 0 = .ok (.iload_n 1, 1) := dk_27 (dk_at dksX0_taken_0 0 rfl rfl)
theorem dX0_taken_1 : decode cX0_taken 1 = .ok (.lookupswitch 41 #[(0, 27), (1, 34)], 27) := by decide +kernel
theorem dX0_taken_28 : decode cX0_taken 28 = .ok (.aload_n 0, 1) := dk_42 (dk_at dksX0_taken_2 0 rfl rfl)
theorem dX0_taken_29 : decode cX0_taken 29 = .ok (.checkcast 409, 3) := dk_192 1 153 (dk_at dksX0_taken_2 1 rfl rfl)
theorem dX0_taken_32 : decode cX0_taken 32 = .ok (.iload_n 2, 1) := dk_28 (dk_at dksX0_taken_2 4 rfl rfl)
theorem dX0_taken_33 : decode cX0_taken 33 = .ok (.baload, 1) := dk_51 (dk_at dksX0_taken_2 5 rfl rfl)
theorem dX0_taken_34 : decode cX0_taken 34 = .ok (.ireturn, 1) := dk_172 (dk_at dksX0_taken_2 6 rfl rfl)
theorem dX0_taken_35 : decode cX0_taken 35 = .ok (.aload_n 0, 1) := dk_42 (dk_at dksX0_taken_2 7 rfl rfl)
theorem dX0_taken_36 : decode cX0_taken 36 = .ok (.checkcast 411, 3) := dk_192 1 155 (dk_at dksX0_taken_2 8 rfl rfl)
theorem dX0_taken_39 : decode cX0_taken 39 = .ok (.iload_n 2, 1) := dk_28 (dk_at dksX0_taken_2 11 rfl rfl)
theorem dX0_taken_40 : decode cX0_taken 40 = .ok (.saload, 1) := dk_53 (dk_at dksX0_taken_2 12 rfl rfl)
theorem dX0_taken_41 : decode cX0_taken 41 = .ok (.ireturn, 1) := dk_172 (dk_at dksX0_taken_2 13 rfl rfl)
theorem dX0_taken_42 : decode cX0_taken 42 = .ok (.aload_n 0, 1) := dk_42 (dk_at dksX0_taken_2 14 rfl rfl)
theorem dX0_taken_43 : decode cX0_taken 43 = .ok (.checkcast 413, 3) := dk_192 1 157 (dk_at dksX0_taken_2 15 rfl rfl)
theorem dX0_taken_46 : decode cX0_taken 46 = .ok (.iload_n 2, 1) := dk_28 (dk_at dksX0_taken_2 18 rfl rfl)
theorem dX0_taken_47 : decode cX0_taken 47 = .ok (.iaload, 1) := dk_46 (dk_at dksX0_taken_2 19 rfl rfl)
theorem dX0_taken_48 : decode cX0_taken 48 = .ok (.ireturn, 1) := dk_172 (dk_at dksX0_taken_2 20 rfl rfl)
abbrev cX0_see : ByteArray := prog_1_method_19_code
def yX0_see : MethodName := ⟨RX0, "see", "(IIIIII)I"⟩
def dkwX0_see_4 : List UInt8 := [172]
abbrev dktX0_see_4 : List UInt8 := dkwX0_see_4 ++ []
def dkwX0_see_3 : List UInt8 := [3, 28, 79, 89, 4, 29, 79, 89, 5, 21, 4, 79, 21, 5, 21, 6, 182, 0, 123, 167, 0, 5, 16, 254]
abbrev dktX0_see_3 : List UInt8 := dkwX0_see_3 ++ dktX0_see_4
def dkwX0_see_2 : List UInt8 := [184, 0, 1, 153, 0, 7, 4, 167, 0, 4, 3, 54, 7, 21, 7, 153, 0, 31, 42, 27, 6, 188, 10, 89]
abbrev dktX0_see_2 : List UInt8 := dkwX0_see_2 ++ dktX0_see_3
def dkwX0_see_1 : List UInt8 := [153, 0, 32, 29, 184, 0, 120, 153, 0, 25, 21, 4, 184, 0, 120, 153, 0, 17, 21, 6, 3, 6]
abbrev dktX0_see_1 : List UInt8 := dkwX0_see_1 ++ dktX0_see_2
def dkwX0_see_0 : List UInt8 := [27, 3, 16, 8, 42, 180, 0, 11, 3, 46, 184, 0, 91, 184, 0, 1, 153, 0, 39, 28, 184, 0, 120]
abbrev dktX0_see_0 : List UInt8 := dkwX0_see_0 ++ dktX0_see_1
theorem dksX0_see_0 : cX0_see.data.toList.drop 0 = dktX0_see_0 := by decide +kernel
theorem dksX0_see_1 : cX0_see.data.toList.drop 23 = dktX0_see_1 := dk_seg dksX0_see_0 23 rfl rfl
theorem dksX0_see_2 : cX0_see.data.toList.drop 45 = dktX0_see_2 := dk_seg dksX0_see_1 22 rfl rfl
theorem dksX0_see_3 : cX0_see.data.toList.drop 69 = dktX0_see_3 := dk_seg dksX0_see_2 24 rfl rfl
theorem dksX0_see_4 : cX0_see.data.toList.drop 93 = dktX0_see_4 := dk_seg dksX0_see_3 24 rfl rfl
theorem dX0_see_0 : decode cX0_see 0 = .ok (.iload_n 1, 1) := dk_27 (dk_at dksX0_see_0 0 rfl rfl)
theorem dX0_see_1 : decode cX0_see 1 = .ok (.iconst 0, 1) := dk_3 (dk_at dksX0_see_0 1 rfl rfl)
theorem dX0_see_2 : decode cX0_see 2 = .ok (.bipush 8, 2) := dk_16 8 (dk_at dksX0_see_0 2 rfl rfl)
theorem dX0_see_4 : decode cX0_see 4 = .ok (.aload_n 0, 1) := dk_42 (dk_at dksX0_see_0 4 rfl rfl)
theorem dX0_see_5 : decode cX0_see 5 = .ok (.getfield 11, 3) := dk_180 0 11 (dk_at dksX0_see_0 5 rfl rfl)
theorem dX0_see_8 : decode cX0_see 8 = .ok (.iconst 0, 1) := dk_3 (dk_at dksX0_see_0 8 rfl rfl)
theorem dX0_see_9 : decode cX0_see 9 = .ok (.iaload, 1) := dk_46 (dk_at dksX0_see_0 9 rfl rfl)
theorem dX0_see_10 : decode cX0_see 10 = .ok (.invokestatic 91, 3) := dk_184 0 91 (dk_at dksX0_see_0 10 rfl rfl)
theorem dX0_see_13 : decode cX0_see 13 = .ok (.invokestatic 1, 3) := dk_184 0 1 (dk_at dksX0_see_0 13 rfl rfl)
theorem dX0_see_16 : decode cX0_see 16 = .ok (.ifCond .eq 39, 3) := dk_153 0 39 (dk_at dksX0_see_0 16 rfl rfl)
theorem dX0_see_19 : decode cX0_see 19 = .ok (.iload_n 2, 1) := dk_28 (dk_at dksX0_see_0 19 rfl rfl)
theorem dX0_see_20 : decode cX0_see 20 = .ok (.invokestatic 120, 3) := dk_184 0 120 (dk_at dksX0_see_0 20 rfl rfl)
theorem dX0_see_23 : decode cX0_see 23 = .ok (.ifCond .eq 32, 3) := dk_153 0 32 (dk_at dksX0_see_1 0 rfl rfl)
theorem dX0_see_26 : decode cX0_see 26 = .ok (.iload_n 3, 1) := dk_29 (dk_at dksX0_see_1 3 rfl rfl)
theorem dX0_see_27 : decode cX0_see 27 = .ok (.invokestatic 120, 3) := dk_184 0 120 (dk_at dksX0_see_1 4 rfl rfl)
theorem dX0_see_30 : decode cX0_see 30 = .ok (.ifCond .eq 25, 3) := dk_153 0 25 (dk_at dksX0_see_1 7 rfl rfl)
theorem dX0_see_33 : decode cX0_see 33 = .ok (.iload 4, 2) := dk_21 4 (dk_at dksX0_see_1 10 rfl rfl)
theorem dX0_see_35 : decode cX0_see 35 = .ok (.invokestatic 120, 3) := dk_184 0 120 (dk_at dksX0_see_1 12 rfl rfl)
theorem dX0_see_38 : decode cX0_see 38 = .ok (.ifCond .eq 17, 3) := dk_153 0 17 (dk_at dksX0_see_1 15 rfl rfl)
theorem dX0_see_41 : decode cX0_see 41 = .ok (.iload 6, 2) := dk_21 6 (dk_at dksX0_see_1 18 rfl rfl)
theorem dX0_see_43 : decode cX0_see 43 = .ok (.iconst 0, 1) := dk_3 (dk_at dksX0_see_1 20 rfl rfl)
theorem dX0_see_44 : decode cX0_see 44 = .ok (.iconst 3, 1) := dk_6 (dk_at dksX0_see_1 21 rfl rfl)
theorem dX0_see_45 : decode cX0_see 45 = .ok (.invokestatic 1, 3) := dk_184 0 1 (dk_at dksX0_see_2 0 rfl rfl)
theorem dX0_see_48 : decode cX0_see 48 = .ok (.ifCond .eq 7, 3) := dk_153 0 7 (dk_at dksX0_see_2 3 rfl rfl)
theorem dX0_see_51 : decode cX0_see 51 = .ok (.iconst 1, 1) := dk_4 (dk_at dksX0_see_2 6 rfl rfl)
theorem dX0_see_52 : decode cX0_see 52 = .ok (.goto 4, 3) := dk_167 0 4 (dk_at dksX0_see_2 7 rfl rfl)
theorem dX0_see_55 : decode cX0_see 55 = .ok (.iconst 0, 1) := dk_3 (dk_at dksX0_see_2 10 rfl rfl)
theorem dX0_see_56 : decode cX0_see 56 = .ok (.istore 7, 2) := dk_54 7 (dk_at dksX0_see_2 11 rfl rfl)
theorem dX0_see_58 : decode cX0_see 58 = .ok (.iload 7, 2) := dk_21 7 (dk_at dksX0_see_2 13 rfl rfl)
theorem dX0_see_60 : decode cX0_see 60 = .ok (.ifCond .eq 31, 3) := dk_153 0 31 (dk_at dksX0_see_2 15 rfl rfl)
theorem dX0_see_63 : decode cX0_see 63 = .ok (.aload_n 0, 1) := dk_42 (dk_at dksX0_see_2 18 rfl rfl)
theorem dX0_see_64 : decode cX0_see 64 = .ok (.iload_n 1, 1) := dk_27 (dk_at dksX0_see_2 19 rfl rfl)
theorem dX0_see_65 : decode cX0_see 65 = .ok (.iconst 3, 1) := dk_6 (dk_at dksX0_see_2 20 rfl rfl)
theorem dX0_see_66 : decode cX0_see 66 = .ok (.newarray .int, 2) := dk_188_10 (dk_at dksX0_see_2 21 rfl rfl)
theorem dX0_see_68 : decode cX0_see 68 = .ok (.dup, 1) := dk_89 (dk_at dksX0_see_2 23 rfl rfl)
theorem dX0_see_69 : decode cX0_see 69 = .ok (.iconst 0, 1) := dk_3 (dk_at dksX0_see_3 0 rfl rfl)
theorem dX0_see_70 : decode cX0_see 70 = .ok (.iload_n 2, 1) := dk_28 (dk_at dksX0_see_3 1 rfl rfl)
theorem dX0_see_71 : decode cX0_see 71 = .ok (.iastore, 1) := dk_79 (dk_at dksX0_see_3 2 rfl rfl)
theorem dX0_see_72 : decode cX0_see 72 = .ok (.dup, 1) := dk_89 (dk_at dksX0_see_3 3 rfl rfl)
theorem dX0_see_73 : decode cX0_see 73 = .ok (.iconst 1, 1) := dk_4 (dk_at dksX0_see_3 4 rfl rfl)
theorem dX0_see_74 : decode cX0_see 74 = .ok (.iload_n 3, 1) := dk_29 (dk_at dksX0_see_3 5 rfl rfl)
theorem dX0_see_75 : decode cX0_see 75 = .ok (.iastore, 1) := dk_79 (dk_at dksX0_see_3 6 rfl rfl)
theorem dX0_see_76 : decode cX0_see 76 = .ok (.dup, 1) := dk_89 (dk_at dksX0_see_3 7 rfl rfl)
theorem dX0_see_77 : decode cX0_see 77 = .ok (.iconst 2, 1) := dk_5 (dk_at dksX0_see_3 8 rfl rfl)
theorem dX0_see_78 : decode cX0_see 78 = .ok (.iload 4, 2) := dk_21 4 (dk_at dksX0_see_3 9 rfl rfl)
theorem dX0_see_80 : decode cX0_see 80 = .ok (.iastore, 1) := dk_79 (dk_at dksX0_see_3 11 rfl rfl)
theorem dX0_see_81 : decode cX0_see 81 = .ok (.iload 5, 2) := dk_21 5 (dk_at dksX0_see_3 12 rfl rfl)
theorem dX0_see_83 : decode cX0_see 83 = .ok (.iload 6, 2) := dk_21 6 (dk_at dksX0_see_3 14 rfl rfl)
theorem dX0_see_85 : decode cX0_see 85 = .ok (.invokevirtual 123, 3) := dk_182 0 123 (dk_at dksX0_see_3 16 rfl rfl)
theorem dX0_see_88 : decode cX0_see 88 = .ok (.goto 5, 3) := dk_167 0 5 (dk_at dksX0_see_3 19 rfl rfl)
theorem dX0_see_91 : decode cX0_see 91 = .ok (.bipush (-2), 2) := dk_16 254 (dk_at dksX0_see_3 22 rfl rfl)
theorem dX0_see_93 : decode cX0_see 93 = .ok (.ireturn, 1) := dk_172 (dk_at dksX0_see_4 0 rfl rfl)
abbrev cX0_isFour : ByteArray := prog_1_method_4_code
def yX0_isFour : MethodName := ⟨RX0, "isFour", "(I)Z"⟩
def dkwX0_isFour_0 : List UInt8 := [26, 3, 6, 184, 0, 1, 172]
abbrev dktX0_isFour_0 : List UInt8 := dkwX0_isFour_0 ++ []
theorem dksX0_isFour_0 : cX0_isFour.data.toList.drop 0 = dktX0_isFour_0 := by decide +kernel
theorem dX0_isFour_0 : decode cX0_isFour 0 = .ok (.iload_n 0, 1) := dk_26 (dk_at dksX0_isFour_0 0 rfl rfl)
theorem dX0_isFour_1 : decode cX0_isFour 1 = .ok (.iconst 0, 1) := dk_3 (dk_at dksX0_isFour_0 1 rfl rfl)
theorem dX0_isFour_2 : decode cX0_isFour 2 = .ok (.iconst 3, 1) := dk_6 (dk_at dksX0_isFour_0 2 rfl rfl)
theorem dX0_isFour_3 : decode cX0_isFour 3 = .ok (.invokestatic 1, 3) := dk_184 0 1 (dk_at dksX0_isFour_0 3 rfl rfl)
theorem dX0_isFour_6 : decode cX0_isFour 6 = .ok (.ireturn, 1) := dk_172 (dk_at dksX0_isFour_0 6 rfl rfl)
abbrev cX0_sees : ByteArray := prog_1_method_18_code
def yX0_sees : MethodName := ⟨RX0, "sees", "(I[III)I"⟩
def dkwX0_sees_6 : List UInt8 := [132, 5, 1, 167, 255, 130, 42, 3, 181, 0, 24, 27, 172]
abbrev dktX0_sees_6 : List UInt8 := dkwX0_sees_6 ++ []
def dkwX0_sees_5 : List UInt8 := [4, 42, 180, 0, 85, 3, 46, 42, 180, 0, 85, 4, 46, 42, 180, 0, 85, 5, 46, 182, 0, 31]
abbrev dktX0_sees_5 : List UInt8 := dkwX0_sees_5 ++ dktX0_sees_6
def dkwX0_sees_4 : List UInt8 := [185, 0, 110, 2, 0, 132, 7, 1, 167, 255, 225, 132, 6, 1, 167, 255, 210, 42, 21, 4, 182, 0, 116, 42]
abbrev dktX0_sees_4 : List UInt8 := dkwX0_sees_4 ++ dktX0_sees_5
def dkwX0_sees_3 : List UInt8 := [44, 21, 6, 46, 162, 0, 28, 42, 180, 0, 100, 21, 6, 50, 180, 0, 104, 42, 180, 0, 85]
abbrev dktX0_sees_3 : List UInt8 := dkwX0_sees_3 ++ dktX0_sees_4
def dkwX0_sees_2 : List UInt8 := [182, 0, 50, 79, 132, 6, 1, 167, 255, 226, 3, 54, 6, 21, 6, 6, 162, 0, 46, 3, 54, 7, 21, 7]
abbrev dktX0_sees_2 : List UInt8 := dkwX0_sees_2 ++ dktX0_sees_3
def dkwX0_sees_1 : List UInt8 := [21, 6, 6, 162, 0, 30, 42, 180, 0, 85, 21, 6, 42, 180, 0, 7, 3, 50, 21, 5, 50, 21, 6]
abbrev dktX0_sees_1 : List UInt8 := dkwX0_sees_1 ++ dktX0_sees_2
def dkwX0_sees_0 : List UInt8 := [42, 29, 181, 0, 81, 42, 180, 0, 11, 4, 3, 79, 3, 54, 5, 21, 5, 27, 162, 0, 126, 3, 54, 6]
abbrev dktX0_sees_0 : List UInt8 := dkwX0_sees_0 ++ dktX0_sees_1
theorem dksX0_sees_0 : cX0_sees.data.toList.drop 0 = dktX0_sees_0 := by decide +kernel
theorem dksX0_sees_1 : cX0_sees.data.toList.drop 24 = dktX0_sees_1 := dk_seg dksX0_sees_0 24 rfl rfl
theorem dksX0_sees_2 : cX0_sees.data.toList.drop 47 = dktX0_sees_2 := dk_seg dksX0_sees_1 23 rfl rfl
theorem dksX0_sees_3 : cX0_sees.data.toList.drop 71 = dktX0_sees_3 := dk_seg dksX0_sees_2 24 rfl rfl
theorem dksX0_sees_4 : cX0_sees.data.toList.drop 92 = dktX0_sees_4 := dk_seg dksX0_sees_3 21 rfl rfl
theorem dksX0_sees_5 : cX0_sees.data.toList.drop 116 = dktX0_sees_5 := dk_seg dksX0_sees_4 24 rfl rfl
theorem dksX0_sees_6 : cX0_sees.data.toList.drop 138 = dktX0_sees_6 := dk_seg dksX0_sees_5 22 rfl rfl
theorem dX0_sees_0 : decode cX0_sees 0 = .ok (.aload_n 0, 1) := dk_42 (dk_at dksX0_sees_0 0 rfl rfl)
theorem dX0_sees_1 : decode cX0_sees 1 = .ok (.iload_n 3, 1) := dk_29 (dk_at dksX0_sees_0 1 rfl rfl)
theorem dX0_sees_2 : decode cX0_sees 2 = .ok (.putfield 81, 3) := dk_181 0 81 (dk_at dksX0_sees_0 2 rfl rfl)
theorem dX0_sees_5 : decode cX0_sees 5 = .ok (.aload_n 0, 1) := dk_42 (dk_at dksX0_sees_0 5 rfl rfl)
theorem dX0_sees_6 : decode cX0_sees 6 = .ok (.getfield 11, 3) := dk_180 0 11 (dk_at dksX0_sees_0 6 rfl rfl)
theorem dX0_sees_9 : decode cX0_sees 9 = .ok (.iconst 1, 1) := dk_4 (dk_at dksX0_sees_0 9 rfl rfl)
theorem dX0_sees_10 : decode cX0_sees 10 = .ok (.iconst 0, 1) := dk_3 (dk_at dksX0_sees_0 10 rfl rfl)
theorem dX0_sees_11 : decode cX0_sees 11 = .ok (.iastore, 1) := dk_79 (dk_at dksX0_sees_0 11 rfl rfl)
theorem dX0_sees_12 : decode cX0_sees 12 = .ok (.iconst 0, 1) := dk_3 (dk_at dksX0_sees_0 12 rfl rfl)
theorem dX0_sees_13 : decode cX0_sees 13 = .ok (.istore 5, 2) := dk_54 5 (dk_at dksX0_sees_0 13 rfl rfl)
theorem dX0_sees_15 : decode cX0_sees 15 = .ok (.iload 5, 2) := dk_21 5 (dk_at dksX0_sees_0 15 rfl rfl)
theorem dX0_sees_17 : decode cX0_sees 17 = .ok (.iload_n 1, 1) := dk_27 (dk_at dksX0_sees_0 17 rfl rfl)
theorem dX0_sees_18 : decode cX0_sees 18 = .ok (.if_icmp .ge 126, 3) := dk_162 0 126 (dk_at dksX0_sees_0 18 rfl rfl)
theorem dX0_sees_21 : decode cX0_sees 21 = .ok (.iconst 0, 1) := dk_3 (dk_at dksX0_sees_0 21 rfl rfl)
theorem dX0_sees_22 : decode cX0_sees 22 = .ok (.istore 6, 2) := dk_54 6 (dk_at dksX0_sees_0 22 rfl rfl)
theorem dX0_sees_24 : decode cX0_sees 24 = .ok (.iload 6, 2) := dk_21 6 (dk_at dksX0_sees_1 0 rfl rfl)
theorem dX0_sees_26 : decode cX0_sees 26 = .ok (.iconst 3, 1) := dk_6 (dk_at dksX0_sees_1 2 rfl rfl)
theorem dX0_sees_27 : decode cX0_sees 27 = .ok (.if_icmp .ge 30, 3) := dk_162 0 30 (dk_at dksX0_sees_1 3 rfl rfl)
theorem dX0_sees_30 : decode cX0_sees 30 = .ok (.aload_n 0, 1) := dk_42 (dk_at dksX0_sees_1 6 rfl rfl)
theorem dX0_sees_31 : decode cX0_sees 31 = .ok (.getfield 85, 3) := dk_180 0 85 (dk_at dksX0_sees_1 7 rfl rfl)
theorem dX0_sees_34 : decode cX0_sees 34 = .ok (.iload 6, 2) := dk_21 6 (dk_at dksX0_sees_1 10 rfl rfl)
theorem dX0_sees_36 : decode cX0_sees 36 = .ok (.aload_n 0, 1) := dk_42 (dk_at dksX0_sees_1 12 rfl rfl)
theorem dX0_sees_37 : decode cX0_sees 37 = .ok (.getfield 7, 3) := dk_180 0 7 (dk_at dksX0_sees_1 13 rfl rfl)
theorem dX0_sees_40 : decode cX0_sees 40 = .ok (.iconst 0, 1) := dk_3 (dk_at dksX0_sees_1 16 rfl rfl)
theorem dX0_sees_41 : decode cX0_sees 41 = .ok (.aaload, 1) := dk_50 (dk_at dksX0_sees_1 17 rfl rfl)
theorem dX0_sees_42 : decode cX0_sees 42 = .ok (.iload 5, 2) := dk_21 5 (dk_at dksX0_sees_1 18 rfl rfl)
theorem dX0_sees_44 : decode cX0_sees 44 = .ok (.aaload, 1) := dk_50 (dk_at dksX0_sees_1 20 rfl rfl)
theorem dX0_sees_45 : decode cX0_sees 45 = .ok (.iload 6, 2) := dk_21 6 (dk_at dksX0_sees_1 21 rfl rfl)
theorem dX0_sees_47 : decode cX0_sees 47 = .ok (.invokevirtual 50, 3) := dk_182 0 50 (dk_at dksX0_sees_2 0 rfl rfl)
theorem dX0_sees_50 : decode cX0_sees 50 = .ok (.iastore, 1) := dk_79 (dk_at dksX0_sees_2 3 rfl rfl)
theorem dX0_sees_51 : decode cX0_sees 51 = .ok (.iinc 6 1, 3) := dk_132 6 1 (dk_at dksX0_sees_2 4 rfl rfl)
theorem dX0_sees_54 : decode cX0_sees 54 = .ok (.goto (-30), 3) := dk_167 255 226 (dk_at dksX0_sees_2 7 rfl rfl)
theorem dX0_sees_57 : decode cX0_sees 57 = .ok (.iconst 0, 1) := dk_3 (dk_at dksX0_sees_2 10 rfl rfl)
theorem dX0_sees_58 : decode cX0_sees 58 = .ok (.istore 6, 2) := dk_54 6 (dk_at dksX0_sees_2 11 rfl rfl)
theorem dX0_sees_60 : decode cX0_sees 60 = .ok (.iload 6, 2) := dk_21 6 (dk_at dksX0_sees_2 13 rfl rfl)
theorem dX0_sees_62 : decode cX0_sees 62 = .ok (.iconst 3, 1) := dk_6 (dk_at dksX0_sees_2 15 rfl rfl)
theorem dX0_sees_63 : decode cX0_sees 63 = .ok (.if_icmp .ge 46, 3) := dk_162 0 46 (dk_at dksX0_sees_2 16 rfl rfl)
theorem dX0_sees_66 : decode cX0_sees 66 = .ok (.iconst 0, 1) := dk_3 (dk_at dksX0_sees_2 19 rfl rfl)
theorem dX0_sees_67 : decode cX0_sees 67 = .ok (.istore 7, 2) := dk_54 7 (dk_at dksX0_sees_2 20 rfl rfl)
theorem dX0_sees_69 : decode cX0_sees 69 = .ok (.iload 7, 2) := dk_21 7 (dk_at dksX0_sees_2 22 rfl rfl)
theorem dX0_sees_71 : decode cX0_sees 71 = .ok (.aload_n 2, 1) := dk_44 (dk_at dksX0_sees_3 0 rfl rfl)
theorem dX0_sees_72 : decode cX0_sees 72 = .ok (.iload 6, 2) := dk_21 6 (dk_at dksX0_sees_3 1 rfl rfl)
theorem dX0_sees_74 : decode cX0_sees 74 = .ok (.iaload, 1) := dk_46 (dk_at dksX0_sees_3 3 rfl rfl)
theorem dX0_sees_75 : decode cX0_sees 75 = .ok (.if_icmp .ge 28, 3) := dk_162 0 28 (dk_at dksX0_sees_3 4 rfl rfl)
theorem dX0_sees_78 : decode cX0_sees 78 = .ok (.aload_n 0, 1) := dk_42 (dk_at dksX0_sees_3 7 rfl rfl)
theorem dX0_sees_79 : decode cX0_sees 79 = .ok (.getfield 100, 3) := dk_180 0 100 (dk_at dksX0_sees_3 8 rfl rfl)
theorem dX0_sees_82 : decode cX0_sees 82 = .ok (.iload 6, 2) := dk_21 6 (dk_at dksX0_sees_3 11 rfl rfl)
theorem dX0_sees_84 : decode cX0_sees 84 = .ok (.aaload, 1) := dk_50 (dk_at dksX0_sees_3 13 rfl rfl)
theorem dX0_sees_85 : decode cX0_sees 85 = .ok (.getfield 104, 3) := dk_180 0 104 (dk_at dksX0_sees_3 14 rfl rfl)
theorem dX0_sees_88 : decode cX0_sees 88 = .ok (.aload_n 0, 1) := dk_42 (dk_at dksX0_sees_3 17 rfl rfl)
theorem dX0_sees_89 : decode cX0_sees 89 = .ok (.getfield 85, 3) := dk_180 0 85 (dk_at dksX0_sees_3 18 rfl rfl)
theorem dX0_sees_92 : decode cX0_sees 92 = .ok (.invokeinterface 110 2, 5) := by decide +kernel
theorem dX0_sees_97 : decode cX0_sees 97 = .ok (.iinc 7 1, 3) := dk_132 7 1 (dk_at dksX0_sees_4 5 rfl rfl)
theorem dX0_sees_100 : decode cX0_sees 100 = .ok (.goto (-31), 3) := dk_167 255 225 (dk_at dksX0_sees_4 8 rfl rfl)
theorem dX0_sees_103 : decode cX0_sees 103 = .ok (.iinc 6 1, 3) := dk_132 6 1 (dk_at dksX0_sees_4 11 rfl rfl)
theorem dX0_sees_106 : decode cX0_sees 106 = .ok (.goto (-46), 3) := dk_167 255 210 (dk_at dksX0_sees_4 14 rfl rfl)
theorem dX0_sees_109 : decode cX0_sees 109 = .ok (.aload_n 0, 1) := dk_42 (dk_at dksX0_sees_4 17 rfl rfl)
theorem dX0_sees_110 : decode cX0_sees 110 = .ok (.iload 4, 2) := dk_21 4 (dk_at dksX0_sees_4 18 rfl rfl)
theorem dX0_sees_112 : decode cX0_sees 112 = .ok (.invokevirtual 116, 3) := dk_182 0 116 (dk_at dksX0_sees_4 20 rfl rfl)
theorem dX0_sees_115 : decode cX0_sees 115 = .ok (.aload_n 0, 1) := dk_42 (dk_at dksX0_sees_4 23 rfl rfl)
theorem dX0_sees_116 : decode cX0_sees 116 = .ok (.iconst 1, 1) := dk_4 (dk_at dksX0_sees_5 0 rfl rfl)
theorem dX0_sees_117 : decode cX0_sees 117 = .ok (.aload_n 0, 1) := dk_42 (dk_at dksX0_sees_5 1 rfl rfl)
theorem dX0_sees_118 : decode cX0_sees 118 = .ok (.getfield 85, 3) := dk_180 0 85 (dk_at dksX0_sees_5 2 rfl rfl)
theorem dX0_sees_121 : decode cX0_sees 121 = .ok (.iconst 0, 1) := dk_3 (dk_at dksX0_sees_5 5 rfl rfl)
theorem dX0_sees_122 : decode cX0_sees 122 = .ok (.iaload, 1) := dk_46 (dk_at dksX0_sees_5 6 rfl rfl)
theorem dX0_sees_123 : decode cX0_sees 123 = .ok (.aload_n 0, 1) := dk_42 (dk_at dksX0_sees_5 7 rfl rfl)
theorem dX0_sees_124 : decode cX0_sees 124 = .ok (.getfield 85, 3) := dk_180 0 85 (dk_at dksX0_sees_5 8 rfl rfl)
theorem dX0_sees_127 : decode cX0_sees 127 = .ok (.iconst 1, 1) := dk_4 (dk_at dksX0_sees_5 11 rfl rfl)
theorem dX0_sees_128 : decode cX0_sees 128 = .ok (.iaload, 1) := dk_46 (dk_at dksX0_sees_5 12 rfl rfl)
theorem dX0_sees_129 : decode cX0_sees 129 = .ok (.aload_n 0, 1) := dk_42 (dk_at dksX0_sees_5 13 rfl rfl)
theorem dX0_sees_130 : decode cX0_sees 130 = .ok (.getfield 85, 3) := dk_180 0 85 (dk_at dksX0_sees_5 14 rfl rfl)
theorem dX0_sees_133 : decode cX0_sees 133 = .ok (.iconst 2, 1) := dk_5 (dk_at dksX0_sees_5 17 rfl rfl)
theorem dX0_sees_134 : decode cX0_sees 134 = .ok (.iaload, 1) := dk_46 (dk_at dksX0_sees_5 18 rfl rfl)
theorem dX0_sees_135 : decode cX0_sees 135 = .ok (.invokevirtual 31, 3) := dk_182 0 31 (dk_at dksX0_sees_5 19 rfl rfl)
theorem dX0_sees_138 : decode cX0_sees 138 = .ok (.iinc 5 1, 3) := dk_132 5 1 (dk_at dksX0_sees_6 0 rfl rfl)
theorem dX0_sees_141 : decode cX0_sees 141 = .ok (.goto (-126), 3) := dk_167 255 130 (dk_at dksX0_sees_6 3 rfl rfl)
theorem dX0_sees_144 : decode cX0_sees 144 = .ok (.aload_n 0, 1) := dk_42 (dk_at dksX0_sees_6 6 rfl rfl)
theorem dX0_sees_145 : decode cX0_sees 145 = .ok (.iconst 0, 1) := dk_3 (dk_at dksX0_sees_6 7 rfl rfl)
theorem dX0_sees_146 : decode cX0_sees 146 = .ok (.putfield 24, 3) := dk_181 0 24 (dk_at dksX0_sees_6 8 rfl rfl)
theorem dX0_sees_149 : decode cX0_sees 149 = .ok (.iload_n 1, 1) := dk_27 (dk_at dksX0_sees_6 11 rfl rfl)
theorem dX0_sees_150 : decode cX0_sees 150 = .ok (.ireturn, 1) := dk_172 (dk_at dksX0_sees_6 12 rfl rfl)
abbrev cX0_noises : ByteArray := prog_1_method_17_code
def yX0_noises : MethodName := ⟨RX0, "noises", "(I)V"⟩
def dkwX0_noises_4 : List UInt8 := [79, 177]
abbrev dktX0_noises_4 : List UInt8 := dkwX0_noises_4 ++ []
def dkwX0_noises_3 : List UInt8 := [4, 46, 154, 0, 16, 42, 180, 0, 85, 5, 46, 154, 0, 7, 4, 167, 0, 9, 42, 180, 0, 85, 5, 46]
abbrev dktX0_noises_3 : List UInt8 := dkwX0_noises_3 ++ dktX0_noises_4
def dkwX0_noises_2 : List UInt8 := [132, 2, 1, 167, 255, 208, 42, 180, 0, 85, 5, 42, 180, 0, 85, 3, 46, 154, 0, 25, 42, 180, 0, 85]
abbrev dktX0_noises_2 : List UInt8 := dkwX0_noises_2 ++ dktX0_noises_3
def dkwX0_noises_1 : List UInt8 := [182, 0, 88, 96, 27, 100, 62, 42, 180, 0, 85, 28, 16, 156, 16, 100, 29, 184, 0, 91, 184, 0, 97, 79]
abbrev dktX0_noises_1 : List UInt8 := dkwX0_noises_1 ++ dktX0_noises_2
def dkwX0_noises_0 : List UInt8 := [3, 61, 28, 6, 162, 0, 49, 27, 158, 0, 45, 42, 180, 0, 85, 28, 46, 42, 5, 27, 104, 4, 96]
abbrev dktX0_noises_0 : List UInt8 := dkwX0_noises_0 ++ dktX0_noises_1
theorem dksX0_noises_0 : cX0_noises.data.toList.drop 0 = dktX0_noises_0 := by decide +kernel
theorem dksX0_noises_1 : cX0_noises.data.toList.drop 23 = dktX0_noises_1 := dk_seg dksX0_noises_0 23 rfl rfl
theorem dksX0_noises_2 : cX0_noises.data.toList.drop 47 = dktX0_noises_2 := dk_seg dksX0_noises_1 24 rfl rfl
theorem dksX0_noises_3 : cX0_noises.data.toList.drop 71 = dktX0_noises_3 := dk_seg dksX0_noises_2 24 rfl rfl
theorem dksX0_noises_4 : cX0_noises.data.toList.drop 95 = dktX0_noises_4 := dk_seg dksX0_noises_3 24 rfl rfl
theorem dX0_noises_0 : decode cX0_noises 0 = .ok (.iconst 0, 1) := dk_3 (dk_at dksX0_noises_0 0 rfl rfl)
theorem dX0_noises_1 : decode cX0_noises 1 = .ok (.istore_n 2, 1) := dk_61 (dk_at dksX0_noises_0 1 rfl rfl)
theorem dX0_noises_2 : decode cX0_noises 2 = .ok (.iload_n 2, 1) := dk_28 (dk_at dksX0_noises_0 2 rfl rfl)
theorem dX0_noises_3 : decode cX0_noises 3 = .ok (.iconst 3, 1) := dk_6 (dk_at dksX0_noises_0 3 rfl rfl)
theorem dX0_noises_4 : decode cX0_noises 4 = .ok (.if_icmp .ge 49, 3) := dk_162 0 49 (dk_at dksX0_noises_0 4 rfl rfl)
theorem dX0_noises_7 : decode cX0_noises 7 = .ok (.iload_n 1, 1) := dk_27 (dk_at dksX0_noises_0 7 rfl rfl)
theorem dX0_noises_8 : decode cX0_noises 8 = .ok (.ifCond .le 45, 3) := dk_158 0 45 (dk_at dksX0_noises_0 8 rfl rfl)
theorem dX0_noises_11 : decode cX0_noises 11 = .ok (.aload_n 0, 1) := dk_42 (dk_at dksX0_noises_0 11 rfl rfl)
theorem dX0_noises_12 : decode cX0_noises 12 = .ok (.getfield 85, 3) := dk_180 0 85 (dk_at dksX0_noises_0 12 rfl rfl)
theorem dX0_noises_15 : decode cX0_noises 15 = .ok (.iload_n 2, 1) := dk_28 (dk_at dksX0_noises_0 15 rfl rfl)
theorem dX0_noises_16 : decode cX0_noises 16 = .ok (.iaload, 1) := dk_46 (dk_at dksX0_noises_0 16 rfl rfl)
theorem dX0_noises_17 : decode cX0_noises 17 = .ok (.aload_n 0, 1) := dk_42 (dk_at dksX0_noises_0 17 rfl rfl)
theorem dX0_noises_18 : decode cX0_noises 18 = .ok (.iconst 2, 1) := dk_5 (dk_at dksX0_noises_0 18 rfl rfl)
theorem dX0_noises_19 : decode cX0_noises 19 = .ok (.iload_n 1, 1) := dk_27 (dk_at dksX0_noises_0 19 rfl rfl)
theorem dX0_noises_20 : decode cX0_noises 20 = .ok (.imul, 1) := dk_104 (dk_at dksX0_noises_0 20 rfl rfl)
theorem dX0_noises_21 : decode cX0_noises 21 = .ok (.iconst 1, 1) := dk_4 (dk_at dksX0_noises_0 21 rfl rfl)
theorem dX0_noises_22 : decode cX0_noises 22 = .ok (.iadd, 1) := dk_96 (dk_at dksX0_noises_0 22 rfl rfl)
theorem dX0_noises_23 : decode cX0_noises 23 = .ok (.invokevirtual 88, 3) := dk_182 0 88 (dk_at dksX0_noises_1 0 rfl rfl)
theorem dX0_noises_26 : decode cX0_noises 26 = .ok (.iadd, 1) := dk_96 (dk_at dksX0_noises_1 3 rfl rfl)
theorem dX0_noises_27 : decode cX0_noises 27 = .ok (.iload_n 1, 1) := dk_27 (dk_at dksX0_noises_1 4 rfl rfl)
theorem dX0_noises_28 : decode cX0_noises 28 = .ok (.isub, 1) := dk_100 (dk_at dksX0_noises_1 5 rfl rfl)
theorem dX0_noises_29 : decode cX0_noises 29 = .ok (.istore_n 3, 1) := dk_62 (dk_at dksX0_noises_1 6 rfl rfl)
theorem dX0_noises_30 : decode cX0_noises 30 = .ok (.aload_n 0, 1) := dk_42 (dk_at dksX0_noises_1 7 rfl rfl)
theorem dX0_noises_31 : decode cX0_noises 31 = .ok (.getfield 85, 3) := dk_180 0 85 (dk_at dksX0_noises_1 8 rfl rfl)
theorem dX0_noises_34 : decode cX0_noises 34 = .ok (.iload_n 2, 1) := dk_28 (dk_at dksX0_noises_1 11 rfl rfl)
theorem dX0_noises_35 : decode cX0_noises 35 = .ok (.bipush (-100), 2) := dk_16 156 (dk_at dksX0_noises_1 12 rfl rfl)
theorem dX0_noises_37 : decode cX0_noises 37 = .ok (.bipush 100, 2) := dk_16 100 (dk_at dksX0_noises_1 14 rfl rfl)
theorem dX0_noises_39 : decode cX0_noises 39 = .ok (.iload_n 3, 1) := dk_29 (dk_at dksX0_noises_1 16 rfl rfl)
theorem dX0_noises_40 : decode cX0_noises 40 = .ok (.invokestatic 91, 3) := dk_184 0 91 (dk_at dksX0_noises_1 17 rfl rfl)
theorem dX0_noises_43 : decode cX0_noises 43 = .ok (.invokestatic 97, 3) := dk_184 0 97 (dk_at dksX0_noises_1 20 rfl rfl)
theorem dX0_noises_46 : decode cX0_noises 46 = .ok (.iastore, 1) := dk_79 (dk_at dksX0_noises_1 23 rfl rfl)
theorem dX0_noises_47 : decode cX0_noises 47 = .ok (.iinc 2 1, 3) := dk_132 2 1 (dk_at dksX0_noises_2 0 rfl rfl)
theorem dX0_noises_50 : decode cX0_noises 50 = .ok (.goto (-48), 3) := dk_167 255 208 (dk_at dksX0_noises_2 3 rfl rfl)
theorem dX0_noises_53 : decode cX0_noises 53 = .ok (.aload_n 0, 1) := dk_42 (dk_at dksX0_noises_2 6 rfl rfl)
theorem dX0_noises_54 : decode cX0_noises 54 = .ok (.getfield 85, 3) := dk_180 0 85 (dk_at dksX0_noises_2 7 rfl rfl)
theorem dX0_noises_57 : decode cX0_noises 57 = .ok (.iconst 2, 1) := dk_5 (dk_at dksX0_noises_2 10 rfl rfl)
theorem dX0_noises_58 : decode cX0_noises 58 = .ok (.aload_n 0, 1) := dk_42 (dk_at dksX0_noises_2 11 rfl rfl)
theorem dX0_noises_59 : decode cX0_noises 59 = .ok (.getfield 85, 3) := dk_180 0 85 (dk_at dksX0_noises_2 12 rfl rfl)
theorem dX0_noises_62 : decode cX0_noises 62 = .ok (.iconst 0, 1) := dk_3 (dk_at dksX0_noises_2 15 rfl rfl)
theorem dX0_noises_63 : decode cX0_noises 63 = .ok (.iaload, 1) := dk_46 (dk_at dksX0_noises_2 16 rfl rfl)
theorem dX0_noises_64 : decode cX0_noises 64 = .ok (.ifCond .ne 25, 3) := dk_154 0 25 (dk_at dksX0_noises_2 17 rfl rfl)
theorem dX0_noises_67 : decode cX0_noises 67 = .ok (.aload_n 0, 1) := dk_42 (dk_at dksX0_noises_2 20 rfl rfl)
theorem dX0_noises_68 : decode cX0_noises 68 = .ok (.getfield 85, 3) := dk_180 0 85 (dk_at dksX0_noises_2 21 rfl rfl)
theorem dX0_noises_71 : decode cX0_noises 71 = .ok (.iconst 1, 1) := dk_4 (dk_at dksX0_noises_3 0 rfl rfl)
theorem dX0_noises_72 : decode cX0_noises 72 = .ok (.iaload, 1) := dk_46 (dk_at dksX0_noises_3 1 rfl rfl)
theorem dX0_noises_73 : decode cX0_noises 73 = .ok (.ifCond .ne 16, 3) := dk_154 0 16 (dk_at dksX0_noises_3 2 rfl rfl)
theorem dX0_noises_76 : decode cX0_noises 76 = .ok (.aload_n 0, 1) := dk_42 (dk_at dksX0_noises_3 5 rfl rfl)
theorem dX0_noises_77 : decode cX0_noises 77 = .ok (.getfield 85, 3) := dk_180 0 85 (dk_at dksX0_noises_3 6 rfl rfl)
theorem dX0_noises_80 : decode cX0_noises 80 = .ok (.iconst 2, 1) := dk_5 (dk_at dksX0_noises_3 9 rfl rfl)
theorem dX0_noises_81 : decode cX0_noises 81 = .ok (.iaload, 1) := dk_46 (dk_at dksX0_noises_3 10 rfl rfl)
theorem dX0_noises_82 : decode cX0_noises 82 = .ok (.ifCond .ne 7, 3) := dk_154 0 7 (dk_at dksX0_noises_3 11 rfl rfl)
theorem dX0_noises_85 : decode cX0_noises 85 = .ok (.iconst 1, 1) := dk_4 (dk_at dksX0_noises_3 14 rfl rfl)
theorem dX0_noises_86 : decode cX0_noises 86 = .ok (.goto 9, 3) := dk_167 0 9 (dk_at dksX0_noises_3 15 rfl rfl)
theorem dX0_noises_89 : decode cX0_noises 89 = .ok (.aload_n 0, 1) := dk_42 (dk_at dksX0_noises_3 18 rfl rfl)
theorem dX0_noises_90 : decode cX0_noises 90 = .ok (.getfield 85, 3) := dk_180 0 85 (dk_at dksX0_noises_3 19 rfl rfl)
theorem dX0_noises_93 : decode cX0_noises 93 = .ok (.iconst 2, 1) := dk_5 (dk_at dksX0_noises_3 22 rfl rfl)
theorem dX0_noises_94 : decode cX0_noises 94 = .ok (.iaload, 1) := dk_46 (dk_at dksX0_noises_3 23 rfl rfl)
theorem dX0_noises_95 : decode cX0_noises 95 = .ok (.iastore, 1) := dk_79 (dk_at dksX0_noises_4 0 rfl rfl)
theorem dX0_noises_96 : decode cX0_noises 96 = .ok (.return_, 1) := dk_177 (dk_at dksX0_noises_4 1 rfl rfl)
abbrev cX0_lot : ByteArray := prog_1_method_16_code
def yX0_lot : MethodName := ⟨RX0, "lot", "(I)I"⟩
def dkwX0_lot_1 : List UInt8 := [172]
abbrev dktX0_lot_1 : List UInt8 := dkwX0_lot_1 ++ []
def dkwX0_lot_0 : List UInt8 := [42, 18, 80, 42, 180, 0, 81, 104, 17, 48, 57, 96, 181, 0, 81, 42, 180, 0, 81, 16, 16, 124, 27, 112]
abbrev dktX0_lot_0 : List UInt8 := dkwX0_lot_0 ++ dktX0_lot_1
theorem dksX0_lot_0 : cX0_lot.data.toList.drop 0 = dktX0_lot_0 := by decide +kernel
theorem dksX0_lot_1 : cX0_lot.data.toList.drop 24 = dktX0_lot_1 := dk_seg dksX0_lot_0 24 rfl rfl
theorem dX0_lot_0 : decode cX0_lot 0 = .ok (.aload_n 0, 1) := dk_42 (dk_at dksX0_lot_0 0 rfl rfl)
theorem dX0_lot_1 : decode cX0_lot 1 = .ok (.ldc 80, 2) := dk_18 80 (dk_at dksX0_lot_0 1 rfl rfl)
theorem dX0_lot_3 : decode cX0_lot 3 = .ok (.aload_n 0, 1) := dk_42 (dk_at dksX0_lot_0 3 rfl rfl)
theorem dX0_lot_4 : decode cX0_lot 4 = .ok (.getfield 81, 3) := dk_180 0 81 (dk_at dksX0_lot_0 4 rfl rfl)
theorem dX0_lot_7 : decode cX0_lot 7 = .ok (.imul, 1) := dk_104 (dk_at dksX0_lot_0 7 rfl rfl)
theorem dX0_lot_8 : decode cX0_lot 8 = .ok (.sipush 12345, 3) := dk_17 48 57 (dk_at dksX0_lot_0 8 rfl rfl)
theorem dX0_lot_11 : decode cX0_lot 11 = .ok (.iadd, 1) := dk_96 (dk_at dksX0_lot_0 11 rfl rfl)
theorem dX0_lot_12 : decode cX0_lot 12 = .ok (.putfield 81, 3) := dk_181 0 81 (dk_at dksX0_lot_0 12 rfl rfl)
theorem dX0_lot_15 : decode cX0_lot 15 = .ok (.aload_n 0, 1) := dk_42 (dk_at dksX0_lot_0 15 rfl rfl)
theorem dX0_lot_16 : decode cX0_lot 16 = .ok (.getfield 81, 3) := dk_180 0 81 (dk_at dksX0_lot_0 16 rfl rfl)
theorem dX0_lot_19 : decode cX0_lot 19 = .ok (.bipush 16, 2) := dk_16 16 (dk_at dksX0_lot_0 19 rfl rfl)
theorem dX0_lot_21 : decode cX0_lot 21 = .ok (.iushr, 1) := dk_124 (dk_at dksX0_lot_0 21 rfl rfl)
theorem dX0_lot_22 : decode cX0_lot 22 = .ok (.iload_n 1, 1) := dk_27 (dk_at dksX0_lot_0 22 rfl rfl)
theorem dX0_lot_23 : decode cX0_lot 23 = .ok (.irem, 1) := dk_112 (dk_at dksX0_lot_0 23 rfl rfl)
theorem dX0_lot_24 : decode cX0_lot 24 = .ok (.ireturn, 1) := dk_172 (dk_at dksX0_lot_1 0 rfl rfl)
abbrev cX0_set : ByteArray := prog_1_method_21_code
def yX0_set : MethodName := ⟨RX0, "set", "(II)I"⟩
def dkwX0_set_1 : List UInt8 := [79, 42, 3, 181, 0, 24, 29, 172]
abbrev dktX0_set_1 : List UInt8 := dkwX0_set_1 ++ []
def dkwX0_set_0 : List UInt8 := [27, 28, 184, 0, 127, 154, 0, 6, 16, 254, 172, 42, 180, 0, 130, 27, 46, 62, 42, 180, 0, 130, 27, 28]
abbrev dktX0_set_0 : List UInt8 := dkwX0_set_0 ++ dktX0_set_1
theorem dksX0_set_0 : cX0_set.data.toList.drop 0 = dktX0_set_0 := by decide +kernel
theorem dksX0_set_1 : cX0_set.data.toList.drop 24 = dktX0_set_1 := dk_seg dksX0_set_0 24 rfl rfl
theorem dX0_set_0 : decode cX0_set 0 = .ok (.iload_n 1, 1) := dk_27 (dk_at dksX0_set_0 0 rfl rfl)
theorem dX0_set_1 : decode cX0_set 1 = .ok (.iload_n 2, 1) := dk_28 (dk_at dksX0_set_0 1 rfl rfl)
theorem dX0_set_2 : decode cX0_set 2 = .ok (.invokestatic 127, 3) := dk_184 0 127 (dk_at dksX0_set_0 2 rfl rfl)
theorem dX0_set_5 : decode cX0_set 5 = .ok (.ifCond .ne 6, 3) := dk_154 0 6 (dk_at dksX0_set_0 5 rfl rfl)
theorem dX0_set_8 : decode cX0_set 8 = .ok (.bipush (-2), 2) := dk_16 254 (dk_at dksX0_set_0 8 rfl rfl)
theorem dX0_set_10 : decode cX0_set 10 = .ok (.ireturn, 1) := dk_172 (dk_at dksX0_set_0 10 rfl rfl)
theorem dX0_set_11 : decode cX0_set 11 = .ok (.aload_n 0, 1) := dk_42 (dk_at dksX0_set_0 11 rfl rfl)
theorem dX0_set_12 : decode cX0_set 12 = .ok (.getfield 130, 3) := dk_180 0 130 (dk_at dksX0_set_0 12 rfl rfl)
theorem dX0_set_15 : decode cX0_set 15 = .ok (.iload_n 1, 1) := dk_27 (dk_at dksX0_set_0 15 rfl rfl)
theorem dX0_set_16 : decode cX0_set 16 = .ok (.iaload, 1) := dk_46 (dk_at dksX0_set_0 16 rfl rfl)
theorem dX0_set_17 : decode cX0_set 17 = .ok (.istore_n 3, 1) := dk_62 (dk_at dksX0_set_0 17 rfl rfl)
theorem dX0_set_18 : decode cX0_set 18 = .ok (.aload_n 0, 1) := dk_42 (dk_at dksX0_set_0 18 rfl rfl)
theorem dX0_set_19 : decode cX0_set 19 = .ok (.getfield 130, 3) := dk_180 0 130 (dk_at dksX0_set_0 19 rfl rfl)
theorem dX0_set_22 : decode cX0_set 22 = .ok (.iload_n 1, 1) := dk_27 (dk_at dksX0_set_0 22 rfl rfl)
theorem dX0_set_23 : decode cX0_set 23 = .ok (.iload_n 2, 1) := dk_28 (dk_at dksX0_set_0 23 rfl rfl)
theorem dX0_set_24 : decode cX0_set 24 = .ok (.iastore, 1) := dk_79 (dk_at dksX0_set_1 0 rfl rfl)
theorem dX0_set_25 : decode cX0_set 25 = .ok (.aload_n 0, 1) := dk_42 (dk_at dksX0_set_1 1 rfl rfl)
theorem dX0_set_26 : decode cX0_set 26 = .ok (.iconst 0, 1) := dk_3 (dk_at dksX0_set_1 2 rfl rfl)
theorem dX0_set_27 : decode cX0_set 27 = .ok (.putfield 24, 3) := dk_181 0 24 (dk_at dksX0_set_1 3 rfl rfl)
theorem dX0_set_30 : decode cX0_set 30 = .ok (.iload_n 3, 1) := dk_29 (dk_at dksX0_set_1 6 rfl rfl)
theorem dX0_set_31 : decode cX0_set 31 = .ok (.ireturn, 1) := dk_172 (dk_at dksX0_set_1 7 rfl rfl)
abbrev cX0_isSetting : ByteArray := prog_1_method_20_code
def yX0_isSetting : MethodName := ⟨RX0, "isSetting", "(II)Z"⟩
def dkwX0_isSetting_4 : List UInt8 := [3, 172]
abbrev dktX0_isSetting_4 : List UInt8 := dkwX0_isSetting_4 ++ []
def dkwX0_isSetting_3 : List UInt8 := [184, 0, 1, 172, 26, 6, 160, 0, 18, 27, 3, 17, 1, 44, 184, 0, 1, 153, 0, 7, 4, 167, 0, 4]
abbrev dktX0_isSetting_3 : List UInt8 := dkwX0_isSetting_3 ++ dktX0_isSetting_4
def dkwX0_isSetting_2 : List UInt8 := [27, 4, 17, 39, 15, 184, 0, 1, 172, 27, 3, 17, 39, 15, 184, 0, 1, 172, 27, 4, 16, 99]
abbrev dktX0_isSetting_2 : List UInt8 := dkwX0_isSetting_2 ++ dktX0_isSetting_3
def dkwX0_isSetting_1 : List UInt8 := [170, 0, 0, 0, 0, 0, 53, 0, 0, 0, 0, 0, 0, 0, 2, 0, 0, 0, 27, 0, 0, 0, 36, 0, 0, 0, 45]
abbrev dktX0_isSetting_1 : List UInt8 := dkwX0_isSetting_1 ++ dktX0_isSetting_2
def dkwX0_isSetting_0 : List UInt8 := [26]
abbrev dktX0_isSetting_0 : List UInt8 := dkwX0_isSetting_0 ++ dktX0_isSetting_1
theorem dksX0_isSetting_0 : cX0_isSetting.data.toList.drop 0 = dktX0_isSetting_0 := by decide +kernel
theorem dksX0_isSetting_1 : cX0_isSetting.data.toList.drop 1 = dktX0_isSetting_1 := dk_seg dksX0_isSetting_0 1 rfl rfl
theorem dksX0_isSetting_2 : cX0_isSetting.data.toList.drop 28 = dktX0_isSetting_2 := dk_seg dksX0_isSetting_1 27 rfl rfl
theorem dksX0_isSetting_3 : cX0_isSetting.data.toList.drop 50 = dktX0_isSetting_3 := dk_seg dksX0_isSetting_2 22 rfl rfl
theorem dksX0_isSetting_4 : cX0_isSetting.data.toList.drop 74 = dktX0_isSetting_4 := dk_seg dksX0_isSetting_3 24 rfl rfl
theorem dX0_isSetting_0 : decode cX0_isSetting 0 = .ok (.iload_n 0, 1) := dk_26 (dk_at dksX0_isSetting_0 0 rfl rfl)
theorem dX0_isSetting_1 : decode cX0_isSetting 1 = .ok (.tableswitch 53 0 2 #[27, 36, 45], 27) := by decide +kernel
theorem dX0_isSetting_28 : decode cX0_isSetting 28 = .ok (.iload_n 1, 1) := dk_27 (dk_at dksX0_isSetting_2 0 rfl rfl)
theorem dX0_isSetting_29 : decode cX0_isSetting 29 = .ok (.iconst 1, 1) := dk_4 (dk_at dksX0_isSetting_2 1 rfl rfl)
theorem dX0_isSetting_30 : decode cX0_isSetting 30 = .ok (.sipush 9999, 3) := dk_17 39 15 (dk_at dksX0_isSetting_2 2 rfl rfl)
theorem dX0_isSetting_33 : decode cX0_isSetting 33 = .ok (.invokestatic 1, 3) := dk_184 0 1 (dk_at dksX0_isSetting_2 5 rfl rfl)
theorem dX0_isSetting_36 : decode cX0_isSetting 36 = .ok (.ireturn, 1) := dk_172 (dk_at dksX0_isSetting_2 8 rfl rfl)
theorem dX0_isSetting_37 : decode cX0_isSetting 37 = .ok (.iload_n 1, 1) := dk_27 (dk_at dksX0_isSetting_2 9 rfl rfl)
theorem dX0_isSetting_38 : decode cX0_isSetting 38 = .ok (.iconst 0, 1) := dk_3 (dk_at dksX0_isSetting_2 10 rfl rfl)
theorem dX0_isSetting_39 : decode cX0_isSetting 39 = .ok (.sipush 9999, 3) := dk_17 39 15 (dk_at dksX0_isSetting_2 11 rfl rfl)
theorem dX0_isSetting_42 : decode cX0_isSetting 42 = .ok (.invokestatic 1, 3) := dk_184 0 1 (dk_at dksX0_isSetting_2 14 rfl rfl)
theorem dX0_isSetting_45 : decode cX0_isSetting 45 = .ok (.ireturn, 1) := dk_172 (dk_at dksX0_isSetting_2 17 rfl rfl)
theorem dX0_isSetting_46 : decode cX0_isSetting 46 = .ok (.iload_n 1, 1) := dk_27 (dk_at dksX0_isSetting_2 18 rfl rfl)
theorem dX0_isSetting_47 : decode cX0_isSetting 47 = .ok (.iconst 1, 1) := dk_4 (dk_at dksX0_isSetting_2 19 rfl rfl)
theorem dX0_isSetting_48 : decode cX0_isSetting 48 = .ok (.bipush 99, 2) := dk_16 99 (dk_at dksX0_isSetting_2 20 rfl rfl)
theorem dX0_isSetting_50 : decode cX0_isSetting 50 = .ok (.invokestatic 1, 3) := dk_184 0 1 (dk_at dksX0_isSetting_3 0 rfl rfl)
theorem dX0_isSetting_53 : decode cX0_isSetting 53 = .ok (.ireturn, 1) := dk_172 (dk_at dksX0_isSetting_3 3 rfl rfl)
theorem dX0_isSetting_54 : decode cX0_isSetting 54 = .ok (.iload_n 0, 1) := dk_26 (dk_at dksX0_isSetting_3 4 rfl rfl)
theorem dX0_isSetting_55 : decode cX0_isSetting 55 = .ok (.iconst 3, 1) := dk_6 (dk_at dksX0_isSetting_3 5 rfl rfl)
theorem dX0_isSetting_56 : decode cX0_isSetting 56 = .ok (.if_icmp .ne 18, 3) := dk_160 0 18 (dk_at dksX0_isSetting_3 6 rfl rfl)
theorem dX0_isSetting_59 : decode cX0_isSetting 59 = .ok (.iload_n 1, 1) := dk_27 (dk_at dksX0_isSetting_3 9 rfl rfl)
theorem dX0_isSetting_60 : decode cX0_isSetting 60 = .ok (.iconst 0, 1) := dk_3 (dk_at dksX0_isSetting_3 10 rfl rfl)
theorem dX0_isSetting_61 : decode cX0_isSetting 61 = .ok (.sipush 300, 3) := dk_17 1 44 (dk_at dksX0_isSetting_3 11 rfl rfl)
theorem dX0_isSetting_64 : decode cX0_isSetting 64 = .ok (.invokestatic 1, 3) := dk_184 0 1 (dk_at dksX0_isSetting_3 14 rfl rfl)
theorem dX0_isSetting_67 : decode cX0_isSetting 67 = .ok (.ifCond .eq 7, 3) := dk_153 0 7 (dk_at dksX0_isSetting_3 17 rfl rfl)
theorem dX0_isSetting_70 : decode cX0_isSetting 70 = .ok (.iconst 1, 1) := dk_4 (dk_at dksX0_isSetting_3 20 rfl rfl)
theorem dX0_isSetting_71 : decode cX0_isSetting 71 = .ok (.goto 4, 3) := dk_167 0 4 (dk_at dksX0_isSetting_3 21 rfl rfl)
theorem dX0_isSetting_74 : decode cX0_isSetting 74 = .ok (.iconst 0, 1) := dk_3 (dk_at dksX0_isSetting_4 0 rfl rfl)
theorem dX0_isSetting_75 : decode cX0_isSetting 75 = .ok (.ireturn, 1) := dk_172 (dk_at dksX0_isSetting_4 1 rfl rfl)
abbrev cX0_side : ByteArray := prog_1_method_22_code
def yX0_side : MethodName := ⟨RX0, "side", "(III)I"⟩
def dkwX0_side_1 : List UInt8 := [28, 50, 42, 180, 0, 7, 27, 50, 29, 50, 182, 0, 133, 167, 0, 5, 16, 254, 172]
abbrev dktX0_side_1 : List UInt8 := dkwX0_side_1 ++ []
def dkwX0_side_0 : List UInt8 := [42, 27, 28, 182, 0, 43, 153, 0, 34, 42, 27, 29, 182, 0, 43, 153, 0, 25, 42, 180, 0, 7, 27, 50]
abbrev dktX0_side_0 : List UInt8 := dkwX0_side_0 ++ dktX0_side_1
theorem dksX0_side_0 : cX0_side.data.toList.drop 0 = dktX0_side_0 := by decide +kernel
theorem dksX0_side_1 : cX0_side.data.toList.drop 24 = dktX0_side_1 := dk_seg dksX0_side_0 24 rfl rfl
theorem dX0_side_0 : decode cX0_side 0 = .ok (.aload_n 0, 1) := dk_42 (dk_at dksX0_side_0 0 rfl rfl)
theorem dX0_side_1 : decode cX0_side 1 = .ok (.iload_n 1, 1) := dk_27 (dk_at dksX0_side_0 1 rfl rfl)
theorem dX0_side_2 : decode cX0_side 2 = .ok (.iload_n 2, 1) := dk_28 (dk_at dksX0_side_0 2 rfl rfl)
theorem dX0_side_3 : decode cX0_side 3 = .ok (.invokevirtual 43, 3) := dk_182 0 43 (dk_at dksX0_side_0 3 rfl rfl)
theorem dX0_side_6 : decode cX0_side 6 = .ok (.ifCond .eq 34, 3) := dk_153 0 34 (dk_at dksX0_side_0 6 rfl rfl)
theorem dX0_side_9 : decode cX0_side 9 = .ok (.aload_n 0, 1) := dk_42 (dk_at dksX0_side_0 9 rfl rfl)
theorem dX0_side_10 : decode cX0_side 10 = .ok (.iload_n 1, 1) := dk_27 (dk_at dksX0_side_0 10 rfl rfl)
theorem dX0_side_11 : decode cX0_side 11 = .ok (.iload_n 3, 1) := dk_29 (dk_at dksX0_side_0 11 rfl rfl)
theorem dX0_side_12 : decode cX0_side 12 = .ok (.invokevirtual 43, 3) := dk_182 0 43 (dk_at dksX0_side_0 12 rfl rfl)
theorem dX0_side_15 : decode cX0_side 15 = .ok (.ifCond .eq 25, 3) := dk_153 0 25 (dk_at dksX0_side_0 15 rfl rfl)
theorem dX0_side_18 : decode cX0_side 18 = .ok (.aload_n 0, 1) := dk_42 (dk_at dksX0_side_0 18 rfl rfl)
theorem dX0_side_19 : decode cX0_side 19 = .ok (.getfield 7, 3) := dk_180 0 7 (dk_at dksX0_side_0 19 rfl rfl)
theorem dX0_side_22 : decode cX0_side 22 = .ok (.iload_n 1, 1) := dk_27 (dk_at dksX0_side_0 22 rfl rfl)
theorem dX0_side_23 : decode cX0_side 23 = .ok (.aaload, 1) := dk_50 (dk_at dksX0_side_0 23 rfl rfl)
theorem dX0_side_24 : decode cX0_side 24 = .ok (.iload_n 2, 1) := dk_28 (dk_at dksX0_side_1 0 rfl rfl)
theorem dX0_side_25 : decode cX0_side 25 = .ok (.aaload, 1) := dk_50 (dk_at dksX0_side_1 1 rfl rfl)
theorem dX0_side_26 : decode cX0_side 26 = .ok (.aload_n 0, 1) := dk_42 (dk_at dksX0_side_1 2 rfl rfl)
theorem dX0_side_27 : decode cX0_side 27 = .ok (.getfield 7, 3) := dk_180 0 7 (dk_at dksX0_side_1 3 rfl rfl)
theorem dX0_side_30 : decode cX0_side 30 = .ok (.iload_n 1, 1) := dk_27 (dk_at dksX0_side_1 6 rfl rfl)
theorem dX0_side_31 : decode cX0_side 31 = .ok (.aaload, 1) := dk_50 (dk_at dksX0_side_1 7 rfl rfl)
theorem dX0_side_32 : decode cX0_side 32 = .ok (.iload_n 3, 1) := dk_29 (dk_at dksX0_side_1 8 rfl rfl)
theorem dX0_side_33 : decode cX0_side 33 = .ok (.aaload, 1) := dk_50 (dk_at dksX0_side_1 9 rfl rfl)
theorem dX0_side_34 : decode cX0_side 34 = .ok (.invokevirtual 133, 3) := dk_182 0 133 (dk_at dksX0_side_1 10 rfl rfl)
theorem dX0_side_37 : decode cX0_side 37 = .ok (.goto 5, 3) := dk_167 0 5 (dk_at dksX0_side_1 13 rfl rfl)
theorem dX0_side_40 : decode cX0_side 40 = .ok (.bipush (-2), 2) := dk_16 254 (dk_at dksX0_side_1 16 rfl rfl)
theorem dX0_side_42 : decode cX0_side 42 = .ok (.ireturn, 1) := dk_172 (dk_at dksX0_side_1 18 rfl rfl)
abbrev cX0_key : ByteArray := prog_1_method_25_code
def yX0_key : MethodName := ⟨RX0, "key", "(IIIII)I"⟩
def dkwX0_key_3 : List UInt8 := [21, 4, 21, 5, 182, 0, 147, 167, 0, 5, 16, 254, 172]
abbrev dktX0_key_3 : List UInt8 := dkwX0_key_3 ++ []
def dkwX0_key_2 : List UInt8 := [21, 4, 159, 0, 31, 28, 21, 4, 159, 0, 25, 21, 5, 184, 0, 47, 153, 0, 17, 42, 27, 28, 29]
abbrev dktX0_key_2 : List UInt8 := dkwX0_key_2 ++ dktX0_key_3
def dkwX0_key_1 : List UInt8 := [182, 0, 43, 153, 0, 7, 4, 167, 0, 4, 3, 54, 6, 21, 6, 153, 0, 42, 28, 29, 159, 0, 37, 29]
abbrev dktX0_key_1 : List UInt8 := dkwX0_key_1 ++ dktX0_key_2
def dkwX0_key_0 : List UInt8 := [42, 27, 28, 182, 0, 43, 153, 0, 26, 42, 27, 29, 182, 0, 43, 153, 0, 17, 42, 27, 21, 4]
abbrev dktX0_key_0 : List UInt8 := dkwX0_key_0 ++ dktX0_key_1
theorem dksX0_key_0 : cX0_key.data.toList.drop 0 = dktX0_key_0 := by decide +kernel
theorem dksX0_key_1 : cX0_key.data.toList.drop 22 = dktX0_key_1 := dk_seg dksX0_key_0 22 rfl rfl
theorem dksX0_key_2 : cX0_key.data.toList.drop 46 = dktX0_key_2 := dk_seg dksX0_key_1 24 rfl rfl
theorem dksX0_key_3 : cX0_key.data.toList.drop 69 = dktX0_key_3 := dk_seg dksX0_key_2 23 rfl rfl
theorem dX0_key_0 : decode cX0_key 0 = .ok (.aload_n 0, 1) := dk_42 (dk_at dksX0_key_0 0 rfl rfl)
theorem dX0_key_1 : decode cX0_key 1 = .ok (.iload_n 1, 1) := dk_27 (dk_at dksX0_key_0 1 rfl rfl)
theorem dX0_key_2 : decode cX0_key 2 = .ok (.iload_n 2, 1) := dk_28 (dk_at dksX0_key_0 2 rfl rfl)
theorem dX0_key_3 : decode cX0_key 3 = .ok (.invokevirtual 43, 3) := dk_182 0 43 (dk_at dksX0_key_0 3 rfl rfl)
theorem dX0_key_6 : decode cX0_key 6 = .ok (.ifCond .eq 26, 3) := dk_153 0 26 (dk_at dksX0_key_0 6 rfl rfl)
theorem dX0_key_9 : decode cX0_key 9 = .ok (.aload_n 0, 1) := dk_42 (dk_at dksX0_key_0 9 rfl rfl)
theorem dX0_key_10 : decode cX0_key 10 = .ok (.iload_n 1, 1) := dk_27 (dk_at dksX0_key_0 10 rfl rfl)
theorem dX0_key_11 : decode cX0_key 11 = .ok (.iload_n 3, 1) := dk_29 (dk_at dksX0_key_0 11 rfl rfl)
theorem dX0_key_12 : decode cX0_key 12 = .ok (.invokevirtual 43, 3) := dk_182 0 43 (dk_at dksX0_key_0 12 rfl rfl)
theorem dX0_key_15 : decode cX0_key 15 = .ok (.ifCond .eq 17, 3) := dk_153 0 17 (dk_at dksX0_key_0 15 rfl rfl)
theorem dX0_key_18 : decode cX0_key 18 = .ok (.aload_n 0, 1) := dk_42 (dk_at dksX0_key_0 18 rfl rfl)
theorem dX0_key_19 : decode cX0_key 19 = .ok (.iload_n 1, 1) := dk_27 (dk_at dksX0_key_0 19 rfl rfl)
theorem dX0_key_20 : decode cX0_key 20 = .ok (.iload 4, 2) := dk_21 4 (dk_at dksX0_key_0 20 rfl rfl)
theorem dX0_key_22 : decode cX0_key 22 = .ok (.invokevirtual 43, 3) := dk_182 0 43 (dk_at dksX0_key_1 0 rfl rfl)
theorem dX0_key_25 : decode cX0_key 25 = .ok (.ifCond .eq 7, 3) := dk_153 0 7 (dk_at dksX0_key_1 3 rfl rfl)
theorem dX0_key_28 : decode cX0_key 28 = .ok (.iconst 1, 1) := dk_4 (dk_at dksX0_key_1 6 rfl rfl)
theorem dX0_key_29 : decode cX0_key 29 = .ok (.goto 4, 3) := dk_167 0 4 (dk_at dksX0_key_1 7 rfl rfl)
theorem dX0_key_32 : decode cX0_key 32 = .ok (.iconst 0, 1) := dk_3 (dk_at dksX0_key_1 10 rfl rfl)
theorem dX0_key_33 : decode cX0_key 33 = .ok (.istore 6, 2) := dk_54 6 (dk_at dksX0_key_1 11 rfl rfl)
theorem dX0_key_35 : decode cX0_key 35 = .ok (.iload 6, 2) := dk_21 6 (dk_at dksX0_key_1 13 rfl rfl)
theorem dX0_key_37 : decode cX0_key 37 = .ok (.ifCond .eq 42, 3) := dk_153 0 42 (dk_at dksX0_key_1 15 rfl rfl)
theorem dX0_key_40 : decode cX0_key 40 = .ok (.iload_n 2, 1) := dk_28 (dk_at dksX0_key_1 18 rfl rfl)
theorem dX0_key_41 : decode cX0_key 41 = .ok (.iload_n 3, 1) := dk_29 (dk_at dksX0_key_1 19 rfl rfl)
theorem dX0_key_42 : decode cX0_key 42 = .ok (.if_icmp .eq 37, 3) := dk_159 0 37 (dk_at dksX0_key_1 20 rfl rfl)
theorem dX0_key_45 : decode cX0_key 45 = .ok (.iload_n 3, 1) := dk_29 (dk_at dksX0_key_1 23 rfl rfl)
theorem dX0_key_46 : decode cX0_key 46 = .ok (.iload 4, 2) := dk_21 4 (dk_at dksX0_key_2 0 rfl rfl)
theorem dX0_key_48 : decode cX0_key 48 = .ok (.if_icmp .eq 31, 3) := dk_159 0 31 (dk_at dksX0_key_2 2 rfl rfl)
theorem dX0_key_51 : decode cX0_key 51 = .ok (.iload_n 2, 1) := dk_28 (dk_at dksX0_key_2 5 rfl rfl)
theorem dX0_key_52 : decode cX0_key 52 = .ok (.iload 4, 2) := dk_21 4 (dk_at dksX0_key_2 6 rfl rfl)
theorem dX0_key_54 : decode cX0_key 54 = .ok (.if_icmp .eq 25, 3) := dk_159 0 25 (dk_at dksX0_key_2 8 rfl rfl)
theorem dX0_key_57 : decode cX0_key 57 = .ok (.iload 5, 2) := dk_21 5 (dk_at dksX0_key_2 11 rfl rfl)
theorem dX0_key_59 : decode cX0_key 59 = .ok (.invokestatic 47, 3) := dk_184 0 47 (dk_at dksX0_key_2 13 rfl rfl)
theorem dX0_key_62 : decode cX0_key 62 = .ok (.ifCond .eq 17, 3) := dk_153 0 17 (dk_at dksX0_key_2 16 rfl rfl)
theorem dX0_key_65 : decode cX0_key 65 = .ok (.aload_n 0, 1) := dk_42 (dk_at dksX0_key_2 19 rfl rfl)
theorem dX0_key_66 : decode cX0_key 66 = .ok (.iload_n 1, 1) := dk_27 (dk_at dksX0_key_2 20 rfl rfl)
theorem dX0_key_67 : decode cX0_key 67 = .ok (.iload_n 2, 1) := dk_28 (dk_at dksX0_key_2 21 rfl rfl)
theorem dX0_key_68 : decode cX0_key 68 = .ok (.iload_n 3, 1) := dk_29 (dk_at dksX0_key_2 22 rfl rfl)
theorem dX0_key_69 : decode cX0_key 69 = .ok (.iload 4, 2) := dk_21 4 (dk_at dksX0_key_3 0 rfl rfl)
theorem dX0_key_71 : decode cX0_key 71 = .ok (.iload 5, 2) := dk_21 5 (dk_at dksX0_key_3 2 rfl rfl)
theorem dX0_key_73 : decode cX0_key 73 = .ok (.invokevirtual 147, 3) := dk_182 0 147 (dk_at dksX0_key_3 4 rfl rfl)
theorem dX0_key_76 : decode cX0_key 76 = .ok (.goto 5, 3) := dk_167 0 5 (dk_at dksX0_key_3 7 rfl rfl)
theorem dX0_key_79 : decode cX0_key 79 = .ok (.bipush (-2), 2) := dk_16 254 (dk_at dksX0_key_3 10 rfl rfl)
theorem dX0_key_81 : decode cX0_key 81 = .ok (.ireturn, 1) := dk_172 (dk_at dksX0_key_3 12 rfl rfl)
abbrev cX0_keyOf : ByteArray := prog_1_method_24_code
def yX0_keyOf : MethodName := ⟨RX0, "keyOf", "(IIIII)I"⟩
def dkwX0_keyOf_0 : List UInt8 := [42, 27, 28, 29, 21, 4, 42, 180, 0, 140, 182, 0, 143, 42, 180, 0, 140, 21, 5, 46, 172]
abbrev dktX0_keyOf_0 : List UInt8 := dkwX0_keyOf_0 ++ []
theorem dksX0_keyOf_0 : cX0_keyOf.data.toList.drop 0 = dktX0_keyOf_0 := by decide +kernel
theorem dX0_keyOf_0 : decode cX0_keyOf 0 = .ok (.aload_n 0, 1) := dk_42 (dk_at dksX0_keyOf_0 0 rfl rfl)
theorem dX0_keyOf_1 : decode cX0_keyOf 1 = .ok (.iload_n 1, 1) := dk_27 (dk_at dksX0_keyOf_0 1 rfl rfl)
theorem dX0_keyOf_2 : decode cX0_keyOf 2 = .ok (.iload_n 2, 1) := dk_28 (dk_at dksX0_keyOf_0 2 rfl rfl)
theorem dX0_keyOf_3 : decode cX0_keyOf 3 = .ok (.iload_n 3, 1) := dk_29 (dk_at dksX0_keyOf_0 3 rfl rfl)
theorem dX0_keyOf_4 : decode cX0_keyOf 4 = .ok (.iload 4, 2) := dk_21 4 (dk_at dksX0_keyOf_0 4 rfl rfl)
theorem dX0_keyOf_6 : decode cX0_keyOf 6 = .ok (.aload_n 0, 1) := dk_42 (dk_at dksX0_keyOf_0 6 rfl rfl)
theorem dX0_keyOf_7 : decode cX0_keyOf 7 = .ok (.getfield 140, 3) := dk_180 0 140 (dk_at dksX0_keyOf_0 7 rfl rfl)
theorem dX0_keyOf_10 : decode cX0_keyOf 10 = .ok (.invokevirtual 143, 3) := dk_182 0 143 (dk_at dksX0_keyOf_0 10 rfl rfl)
theorem dX0_keyOf_13 : decode cX0_keyOf 13 = .ok (.aload_n 0, 1) := dk_42 (dk_at dksX0_keyOf_0 13 rfl rfl)
theorem dX0_keyOf_14 : decode cX0_keyOf 14 = .ok (.getfield 140, 3) := dk_180 0 140 (dk_at dksX0_keyOf_0 14 rfl rfl)
theorem dX0_keyOf_17 : decode cX0_keyOf 17 = .ok (.iload 5, 2) := dk_21 5 (dk_at dksX0_keyOf_0 17 rfl rfl)
theorem dX0_keyOf_19 : decode cX0_keyOf 19 = .ok (.iaload, 1) := dk_46 (dk_at dksX0_keyOf_0 19 rfl rfl)
theorem dX0_keyOf_20 : decode cX0_keyOf 20 = .ok (.ireturn, 1) := dk_172 (dk_at dksX0_keyOf_0 20 rfl rfl)
abbrev cX0_findsKey : ByteArray := prog_1_method_23_code
def yX0_findsKey : MethodName := ⟨RX0, "findsKey", "(IIII[I)V"⟩
def dkwX0_findsKey_4 : List UInt8 := [79, 25, 5, 5, 21, 10, 42, 180, 0, 130, 3, 46, 108, 79, 177]
abbrev dktX0_findsKey_4 : List UInt8 := dkwX0_findsKey_4 ++ []
def dkwX0_findsKey_3 : List UInt8 := [25, 5, 4, 21, 6, 21, 7, 96, 21, 8, 96, 21, 9, 100, 21, 10, 100, 42, 180, 0, 130, 3, 46, 108]
abbrev dktX0_findsKey_3 : List UInt8 := dkwX0_findsKey_3 ++ dktX0_findsKey_4
def dkwX0_findsKey_2 : List UInt8 := [21, 8, 184, 0, 97, 184, 0, 97, 54, 10, 25, 5, 3, 21, 9, 42, 180, 0, 130, 3, 46, 108, 79]
abbrev dktX0_findsKey_2 : List UInt8 := dkwX0_findsKey_2 ++ dktX0_findsKey_3
def dkwX0_findsKey_1 : List UInt8 := [182, 0, 137, 54, 8, 21, 6, 21, 7, 21, 8, 184, 0, 91, 184, 0, 91, 54, 9, 21, 6, 21, 7]
abbrev dktX0_findsKey_1 : List UInt8 := dkwX0_findsKey_1 ++ dktX0_findsKey_2
def dkwX0_findsKey_0 : List UInt8 := [42, 27, 28, 29, 182, 0, 137, 54, 6, 42, 27, 29, 21, 4, 182, 0, 137, 54, 7, 42, 27, 28, 21, 4]
abbrev dktX0_findsKey_0 : List UInt8 := dkwX0_findsKey_0 ++ dktX0_findsKey_1
theorem dksX0_findsKey_0 : cX0_findsKey.data.toList.drop 0 = dktX0_findsKey_0 := by decide +kernel
theorem dksX0_findsKey_1 : cX0_findsKey.data.toList.drop 24 = dktX0_findsKey_1 := dk_seg dksX0_findsKey_0 24 rfl rfl
theorem dksX0_findsKey_2 : cX0_findsKey.data.toList.drop 47 = dktX0_findsKey_2 := dk_seg dksX0_findsKey_1 23 rfl rfl
theorem dksX0_findsKey_3 : cX0_findsKey.data.toList.drop 70 = dktX0_findsKey_3 := dk_seg dksX0_findsKey_2 23 rfl rfl
theorem dksX0_findsKey_4 : cX0_findsKey.data.toList.drop 94 = dktX0_findsKey_4 := dk_seg dksX0_findsKey_3 24 rfl rfl
theorem dX0_findsKey_0 : decode cX0_findsKey 0 = .ok (.aload_n 0, 1) := dk_42 (dk_at dksX0_findsKey_0 0 rfl rfl)
theorem dX0_findsKey_1 : decode cX0_findsKey 1 = .ok (.iload_n 1, 1) := dk_27 (dk_at dksX0_findsKey_0 1 rfl rfl)
theorem dX0_findsKey_2 : decode cX0_findsKey 2 = .ok (.iload_n 2, 1) := dk_28 (dk_at dksX0_findsKey_0 2 rfl rfl)
theorem dX0_findsKey_3 : decode cX0_findsKey 3 = .ok (.iload_n 3, 1) := dk_29 (dk_at dksX0_findsKey_0 3 rfl rfl)
theorem dX0_findsKey_4 : decode cX0_findsKey 4 = .ok (.invokevirtual 137, 3) := dk_182 0 137 (dk_at dksX0_findsKey_0 4 rfl rfl)
theorem dX0_findsKey_7 : decode cX0_findsKey 7 = .ok (.istore 6, 2) := dk_54 6 (dk_at dksX0_findsKey_0 7 rfl rfl)
theorem dX0_findsKey_9 : decode cX0_findsKey 9 = .ok (.aload_n 0, 1) := dk_42 (dk_at dksX0_findsKey_0 9 rfl rfl)
theorem dX0_findsKey_10 : decode cX0_findsKey 10 = .ok (.iload_n 1, 1) := dk_27 (dk_at dksX0_findsKey_0 10 rfl rfl)
theorem dX0_findsKey_11 : decode cX0_findsKey 11 = .ok (.iload_n 3, 1) := dk_29 (dk_at dksX0_findsKey_0 11 rfl rfl)
theorem dX0_findsKey_12 : decode cX0_findsKey 12 = .ok (.iload 4, 2) := dk_21 4 (dk_at dksX0_findsKey_0 12 rfl rfl)
theorem dX0_findsKey_14 : decode cX0_findsKey 14 = .ok (.invokevirtual 137, 3) := dk_182 0 137 (dk_at dksX0_findsKey_0 14 rfl rfl)
theorem dX0_findsKey_17 : decode cX0_findsKey 17 = .ok (.istore 7, 2) := dk_54 7 (dk_at dksX0_findsKey_0 17 rfl rfl)
theorem dX0_findsKey_19 : decode cX0_findsKey 19 = .ok (.aload_n 0, 1) := dk_42 (dk_at dksX0_findsKey_0 19 rfl rfl)
theorem dX0_findsKey_20 : decode cX0_findsKey 20 = .ok (.iload_n 1, 1) := dk_27 (dk_at dksX0_findsKey_0 20 rfl rfl)
theorem dX0_findsKey_21 : decode cX0_findsKey 21 = .ok (.iload_n 2, 1) := dk_28 (dk_at dksX0_findsKey_0 21 rfl rfl)
theorem dX0_findsKey_22 : decode cX0_findsKey 22 = .ok (.iload 4, 2) := dk_21 4 (dk_at dksX0_findsKey_0 22 rfl rfl)
theorem dX0_findsKey_24 : decode cX0_findsKey 24 = .ok (.invokevirtual 137, 3) := dk_182 0 137 (dk_at dksX0_findsKey_1 0 rfl rfl)
theorem dX0_findsKey_27 : decode cX0_findsKey 27 = .ok (.istore 8, 2) := dk_54 8 (dk_at dksX0_findsKey_1 3 rfl rfl)
theorem dX0_findsKey_29 : decode cX0_findsKey 29 = .ok (.iload 6, 2) := dk_21 6 (dk_at dksX0_findsKey_1 5 rfl rfl)
theorem dX0_findsKey_31 : decode cX0_findsKey 31 = .ok (.iload 7, 2) := dk_21 7 (dk_at dksX0_findsKey_1 7 rfl rfl)
theorem dX0_findsKey_33 : decode cX0_findsKey 33 = .ok (.iload 8, 2) := dk_21 8 (dk_at dksX0_findsKey_1 9 rfl rfl)
theorem dX0_findsKey_35 : decode cX0_findsKey 35 = .ok (.invokestatic 91, 3) := dk_184 0 91 (dk_at dksX0_findsKey_1 11 rfl rfl)
theorem dX0_findsKey_38 : decode cX0_findsKey 38 = .ok (.invokestatic 91, 3) := dk_184 0 91 (dk_at dksX0_findsKey_1 14 rfl rfl)
theorem dX0_findsKey_41 : decode cX0_findsKey 41 = .ok (.istore 9, 2) := dk_54 9 (dk_at dksX0_findsKey_1 17 rfl rfl)
theorem dX0_findsKey_43 : decode cX0_findsKey 43 = .ok (.iload 6, 2) := dk_21 6 (dk_at dksX0_findsKey_1 19 rfl rfl)
theorem dX0_findsKey_45 : decode cX0_findsKey 45 = .ok (.iload 7, 2) := dk_21 7 (dk_at dksX0_findsKey_1 21 rfl rfl)
theorem dX0_findsKey_47 : decode cX0_findsKey 47 = .ok (.iload 8, 2) := dk_21 8 (dk_at dksX0_findsKey_2 0 rfl rfl)
theorem dX0_findsKey_49 : decode cX0_findsKey 49 = .ok (.invokestatic 97, 3) := dk_184 0 97 (dk_at dksX0_findsKey_2 2 rfl rfl)
theorem dX0_findsKey_52 : decode cX0_findsKey 52 = .ok (.invokestatic 97, 3) := dk_184 0 97 (dk_at dksX0_findsKey_2 5 rfl rfl)
theorem dX0_findsKey_55 : decode cX0_findsKey 55 = .ok (.istore 10, 2) := dk_54 10 (dk_at dksX0_findsKey_2 8 rfl rfl)
theorem dX0_findsKey_57 : decode cX0_findsKey 57 = .ok (.aload 5, 2) := dk_25 5 (dk_at dksX0_findsKey_2 10 rfl rfl)
theorem dX0_findsKey_59 : decode cX0_findsKey 59 = .ok (.iconst 0, 1) := dk_3 (dk_at dksX0_findsKey_2 12 rfl rfl)
theorem dX0_findsKey_60 : decode cX0_findsKey 60 = .ok (.iload 9, 2) := dk_21 9 (dk_at dksX0_findsKey_2 13 rfl rfl)
theorem dX0_findsKey_62 : decode cX0_findsKey 62 = .ok (.aload_n 0, 1) := dk_42 (dk_at dksX0_findsKey_2 15 rfl rfl)
theorem dX0_findsKey_63 : decode cX0_findsKey 63 = .ok (.getfield 130, 3) := dk_180 0 130 (dk_at dksX0_findsKey_2 16 rfl rfl)
theorem dX0_findsKey_66 : decode cX0_findsKey 66 = .ok (.iconst 0, 1) := dk_3 (dk_at dksX0_findsKey_2 19 rfl rfl)
theorem dX0_findsKey_67 : decode cX0_findsKey 67 = .ok (.iaload, 1) := dk_46 (dk_at dksX0_findsKey_2 20 rfl rfl)
theorem dX0_findsKey_68 : decode cX0_findsKey 68 = .ok (.idiv, 1) := dk_108 (dk_at dksX0_findsKey_2 21 rfl rfl)
theorem dX0_findsKey_69 : decode cX0_findsKey 69 = .ok (.iastore, 1) := dk_79 (dk_at dksX0_findsKey_2 22 rfl rfl)
theorem dX0_findsKey_70 : decode cX0_findsKey 70 = .ok (.aload 5, 2) := dk_25 5 (dk_at dksX0_findsKey_3 0 rfl rfl)
theorem dX0_findsKey_72 : decode cX0_findsKey 72 = .ok (.iconst 1, 1) := dk_4 (dk_at dksX0_findsKey_3 2 rfl rfl)
theorem dX0_findsKey_73 : decode cX0_findsKey 73 = .ok (.iload 6, 2) := dk_21 6 (dk_at dksX0_findsKey_3 3 rfl rfl)
theorem dX0_findsKey_75 : decode cX0_findsKey 75 = .ok (.iload 7, 2) := dk_21 7 (dk_at dksX0_findsKey_3 5 rfl rfl)
theorem dX0_findsKey_77 : decode cX0_findsKey 77 = .ok (.iadd, 1) := dk_96 (dk_at dksX0_findsKey_3 7 rfl rfl)
theorem dX0_findsKey_78 : decode cX0_findsKey 78 = .ok (.iload 8, 2) := dk_21 8 (dk_at dksX0_findsKey_3 8 rfl rfl)
theorem dX0_findsKey_80 : decode cX0_findsKey 80 = .ok (.iadd, 1) := dk_96 (dk_at dksX0_findsKey_3 10 rfl rfl)
theorem dX0_findsKey_81 : decode cX0_findsKey 81 = .ok (.iload 9, 2) := dk_21 9 (dk_at dksX0_findsKey_3 11 rfl rfl)
theorem dX0_findsKey_83 : decode cX0_findsKey 83 = .ok (.isub, 1) := dk_100 (dk_at dksX0_findsKey_3 13 rfl rfl)
theorem dX0_findsKey_84 : decode cX0_findsKey 84 = .ok (.iload 10, 2) := dk_21 10 (dk_at dksX0_findsKey_3 14 rfl rfl)
theorem dX0_findsKey_86 : decode cX0_findsKey 86 = .ok (.isub, 1) := dk_100 (dk_at dksX0_findsKey_3 16 rfl rfl)
theorem dX0_findsKey_87 : decode cX0_findsKey 87 = .ok (.aload_n 0, 1) := dk_42 (dk_at dksX0_findsKey_3 17 rfl rfl)
theorem dX0_findsKey_88 : decode cX0_findsKey 88 = .ok (.getfield 130, 3) := dk_180 0 130 (dk_at dksX0_findsKey_3 18 rfl rfl)
theorem dX0_findsKey_91 : decode cX0_findsKey 91 = .ok (.iconst 0, 1) := dk_3 (dk_at dksX0_findsKey_3 21 rfl rfl)
theorem dX0_findsKey_92 : decode cX0_findsKey 92 = .ok (.iaload, 1) := dk_46 (dk_at dksX0_findsKey_3 22 rfl rfl)
theorem dX0_findsKey_93 : decode cX0_findsKey 93 = .ok (.idiv, 1) := dk_108 (dk_at dksX0_findsKey_3 23 rfl rfl)
theorem dX0_findsKey_94 : decode cX0_findsKey 94 = .ok (.iastore, 1) := dk_79 (dk_at dksX0_findsKey_4 0 rfl rfl)
theorem dX0_findsKey_95 : decode cX0_findsKey 95 = .ok (.aload 5, 2) := dk_25 5 (dk_at dksX0_findsKey_4 1 rfl rfl)
theorem dX0_findsKey_97 : decode cX0_findsKey 97 = .ok (.iconst 2, 1) := dk_5 (dk_at dksX0_findsKey_4 3 rfl rfl)
theorem dX0_findsKey_98 : decode cX0_findsKey 98 = .ok (.iload 10, 2) := dk_21 10 (dk_at dksX0_findsKey_4 4 rfl rfl)
theorem dX0_findsKey_100 : decode cX0_findsKey 100 = .ok (.aload_n 0, 1) := dk_42 (dk_at dksX0_findsKey_4 6 rfl rfl)
theorem dX0_findsKey_101 : decode cX0_findsKey 101 = .ok (.getfield 130, 3) := dk_180 0 130 (dk_at dksX0_findsKey_4 7 rfl rfl)
theorem dX0_findsKey_104 : decode cX0_findsKey 104 = .ok (.iconst 0, 1) := dk_3 (dk_at dksX0_findsKey_4 10 rfl rfl)
theorem dX0_findsKey_105 : decode cX0_findsKey 105 = .ok (.iaload, 1) := dk_46 (dk_at dksX0_findsKey_4 11 rfl rfl)
theorem dX0_findsKey_106 : decode cX0_findsKey 106 = .ok (.idiv, 1) := dk_108 (dk_at dksX0_findsKey_4 12 rfl rfl)
theorem dX0_findsKey_107 : decode cX0_findsKey 107 = .ok (.iastore, 1) := dk_79 (dk_at dksX0_findsKey_4 13 rfl rfl)
theorem dX0_findsKey_108 : decode cX0_findsKey 108 = .ok (.return_, 1) := dk_177 (dk_at dksX0_findsKey_4 14 rfl rfl)
abbrev cX0_looks : ByteArray := prog_1_method_46_code
def yX0_looks : MethodName := ⟨RX0, "looks", "(I)I"⟩
def dkwX0_looks_0 : List UInt8 := [27, 184, 0, 120, 153, 0, 11, 42, 27, 182, 1, 50, 167, 0, 5, 16, 254, 172]
abbrev dktX0_looks_0 : List UInt8 := dkwX0_looks_0 ++ []
theorem dksX0_looks_0 : cX0_looks.data.toList.drop 0 = dktX0_looks_0 := by decide +kernel
theorem dX0_looks_0 : decode cX0_looks 0 = .ok (.iload_n 1, 1) := dk_27 (dk_at dksX0_looks_0 0 rfl rfl)
theorem dX0_looks_1 : decode cX0_looks 1 = .ok (.invokestatic 120, 3) := dk_184 0 120 (dk_at dksX0_looks_0 1 rfl rfl)
theorem dX0_looks_4 : decode cX0_looks 4 = .ok (.ifCond .eq 11, 3) := dk_153 0 11 (dk_at dksX0_looks_0 4 rfl rfl)
theorem dX0_looks_7 : decode cX0_looks 7 = .ok (.aload_n 0, 1) := dk_42 (dk_at dksX0_looks_0 7 rfl rfl)
theorem dX0_looks_8 : decode cX0_looks 8 = .ok (.iload_n 1, 1) := dk_27 (dk_at dksX0_looks_0 8 rfl rfl)
theorem dX0_looks_9 : decode cX0_looks 9 = .ok (.invokevirtual 306, 3) := dk_182 1 50 (dk_at dksX0_looks_0 9 rfl rfl)
theorem dX0_looks_12 : decode cX0_looks 12 = .ok (.goto 5, 3) := dk_167 0 5 (dk_at dksX0_looks_0 12 rfl rfl)
theorem dX0_looks_15 : decode cX0_looks 15 = .ok (.bipush (-2), 2) := dk_16 254 (dk_at dksX0_looks_0 15 rfl rfl)
theorem dX0_looks_17 : decode cX0_looks 17 = .ok (.ireturn, 1) := dk_172 (dk_at dksX0_looks_0 17 rfl rfl)
abbrev cX0_looksOf : ByteArray := prog_1_method_45_code
def yX0_looksOf : MethodName := ⟨RX0, "looksOf", "(I)I"⟩
def dkwX0_looksOf_1 : List UInt8 := [160, 0, 10, 42, 180, 0, 163, 167, 0, 7, 42, 180, 0, 160, 172]
abbrev dktX0_looksOf_1 : List UInt8 := dkwX0_looksOf_1 ++ []
def dkwX0_looksOf_0 : List UInt8 := [42, 182, 1, 44, 27, 5, 162, 0, 15, 42, 180, 0, 11, 27, 46, 184, 1, 47, 167, 0, 19, 27, 5]
abbrev dktX0_looksOf_0 : List UInt8 := dkwX0_looksOf_0 ++ dktX0_looksOf_1
theorem dksX0_looksOf_0 : cX0_looksOf.data.toList.drop 0 = dktX0_looksOf_0 := by decide +kernel
theorem dksX0_looksOf_1 : cX0_looksOf.data.toList.drop 23 = dktX0_looksOf_1 := dk_seg dksX0_looksOf_0 23 rfl rfl
theorem dX0_looksOf_0 : decode cX0_looksOf 0 = .ok (.aload_n 0, 1) := dk_42 (dk_at dksX0_looksOf_0 0 rfl rfl)
theorem dX0_looksOf_1 : decode cX0_looksOf 1 = .ok (.invokevirtual 300, 3) := dk_182 1 44 (dk_at dksX0_looksOf_0 1 rfl rfl)
theorem dX0_looksOf_4 : decode cX0_looksOf 4 = .ok (.iload_n 1, 1) := dk_27 (dk_at dksX0_looksOf_0 4 rfl rfl)
theorem dX0_looksOf_5 : decode cX0_looksOf 5 = .ok (.iconst 2, 1) := dk_5 (dk_at dksX0_looksOf_0 5 rfl rfl)
theorem dX0_looksOf_6 : decode cX0_looksOf 6 = .ok (.if_icmp .ge 15, 3) := dk_162 0 15 (dk_at dksX0_looksOf_0 6 rfl rfl)
theorem dX0_looksOf_9 : decode cX0_looksOf 9 = .ok (.aload_n 0, 1) := dk_42 (dk_at dksX0_looksOf_0 9 rfl rfl)
theorem dX0_looksOf_10 : decode cX0_looksOf 10 = .ok (.getfield 11, 3) := dk_180 0 11 (dk_at dksX0_looksOf_0 10 rfl rfl)
theorem dX0_looksOf_13 : decode cX0_looksOf 13 = .ok (.iload_n 1, 1) := dk_27 (dk_at dksX0_looksOf_0 13 rfl rfl)
theorem dX0_looksOf_14 : decode cX0_looksOf 14 = .ok (.iaload, 1) := dk_46 (dk_at dksX0_looksOf_0 14 rfl rfl)
theorem dX0_looksOf_15 : decode cX0_looksOf 15 = .ok (.invokestatic 303, 3) := dk_184 1 47 (dk_at dksX0_looksOf_0 15 rfl rfl)
theorem dX0_looksOf_18 : decode cX0_looksOf 18 = .ok (.goto 19, 3) := dk_167 0 19 (dk_at dksX0_looksOf_0 18 rfl rfl)
theorem dX0_looksOf_21 : decode cX0_looksOf 21 = .ok (.iload_n 1, 1) := dk_27 (dk_at dksX0_looksOf_0 21 rfl rfl)
theorem dX0_looksOf_22 : decode cX0_looksOf 22 = .ok (.iconst 2, 1) := dk_5 (dk_at dksX0_looksOf_0 22 rfl rfl)
theorem dX0_looksOf_23 : decode cX0_looksOf 23 = .ok (.if_icmp .ne 10, 3) := dk_160 0 10 (dk_at dksX0_looksOf_1 0 rfl rfl)
theorem dX0_looksOf_26 : decode cX0_looksOf 26 = .ok (.aload_n 0, 1) := dk_42 (dk_at dksX0_looksOf_1 3 rfl rfl)
theorem dX0_looksOf_27 : decode cX0_looksOf 27 = .ok (.getfield 163, 3) := dk_180 0 163 (dk_at dksX0_looksOf_1 4 rfl rfl)
theorem dX0_looksOf_30 : decode cX0_looksOf 30 = .ok (.goto 7, 3) := dk_167 0 7 (dk_at dksX0_looksOf_1 7 rfl rfl)
theorem dX0_looksOf_33 : decode cX0_looksOf 33 = .ok (.aload_n 0, 1) := dk_42 (dk_at dksX0_looksOf_1 10 rfl rfl)
theorem dX0_looksOf_34 : decode cX0_looksOf 34 = .ok (.getfield 160, 3) := dk_180 0 160 (dk_at dksX0_looksOf_1 11 rfl rfl)
theorem dX0_looksOf_37 : decode cX0_looksOf 37 = .ok (.ireturn, 1) := dk_172 (dk_at dksX0_looksOf_1 14 rfl rfl)
abbrev cX0_solves : ByteArray := prog_1_method_43_code
def yX0_solves : MethodName := ⟨RX0, "solves", "()V"⟩
def dkwX0_solves_0 : List UInt8 := [42, 180, 0, 24, 154, 0, 18, 42, 4, 181, 0, 24, 42, 42, 180, 0, 130, 4, 46, 182, 1, 41, 177]
abbrev dktX0_solves_0 : List UInt8 := dkwX0_solves_0 ++ []
theorem dksX0_solves_0 : cX0_solves.data.toList.drop 0 = dktX0_solves_0 := by decide +kernel
theorem dX0_solves_0 : decode cX0_solves 0 = .ok (.aload_n 0, 1) := dk_42 (dk_at dksX0_solves_0 0 rfl rfl)
theorem dX0_solves_1 : decode cX0_solves 1 = .ok (.getfield 24, 3) := dk_180 0 24 (dk_at dksX0_solves_0 1 rfl rfl)
theorem dX0_solves_4 : decode cX0_solves 4 = .ok (.ifCond .ne 18, 3) := dk_154 0 18 (dk_at dksX0_solves_0 4 rfl rfl)
theorem dX0_solves_7 : decode cX0_solves 7 = .ok (.aload_n 0, 1) := dk_42 (dk_at dksX0_solves_0 7 rfl rfl)
theorem dX0_solves_8 : decode cX0_solves 8 = .ok (.iconst 1, 1) := dk_4 (dk_at dksX0_solves_0 8 rfl rfl)
theorem dX0_solves_9 : decode cX0_solves 9 = .ok (.putfield 24, 3) := dk_181 0 24 (dk_at dksX0_solves_0 9 rfl rfl)
theorem dX0_solves_12 : decode cX0_solves 12 = .ok (.aload_n 0, 1) := dk_42 (dk_at dksX0_solves_0 12 rfl rfl)
theorem dX0_solves_13 : decode cX0_solves 13 = .ok (.aload_n 0, 1) := dk_42 (dk_at dksX0_solves_0 13 rfl rfl)
theorem dX0_solves_14 : decode cX0_solves 14 = .ok (.getfield 130, 3) := dk_180 0 130 (dk_at dksX0_solves_0 14 rfl rfl)
theorem dX0_solves_17 : decode cX0_solves 17 = .ok (.iconst 1, 1) := dk_4 (dk_at dksX0_solves_0 17 rfl rfl)
theorem dX0_solves_18 : decode cX0_solves 18 = .ok (.iaload, 1) := dk_46 (dk_at dksX0_solves_0 18 rfl rfl)
theorem dX0_solves_19 : decode cX0_solves 19 = .ok (.invokevirtual 297, 3) := dk_182 1 41 (dk_at dksX0_solves_0 19 rfl rfl)
theorem dX0_solves_22 : decode cX0_solves 22 = .ok (.return_, 1) := dk_177 (dk_at dksX0_solves_0 22 rfl rfl)
abbrev cX0_solvesBy : ByteArray := prog_1_method_42_code
def yX0_solvesBy : MethodName := ⟨RX0, "solvesBy", "(I)V"⟩
def dkwX0_solvesBy_2 : List UInt8 := [42, 28, 42, 180, 1, 34, 182, 1, 37, 132, 2, 1, 167, 255, 234, 177]
abbrev dktX0_solvesBy_2 : List UInt8 := dkwX0_solvesBy_2 ++ []
def dkwX0_solvesBy_1 : List UInt8 := [180, 1, 34, 28, 3, 79, 132, 2, 1, 167, 255, 240, 3, 61, 28, 42, 180, 0, 11, 4, 46, 162, 0, 18]
abbrev dktX0_solvesBy_1 : List UInt8 := dkwX0_solvesBy_1 ++ dktX0_solvesBy_2
def dkwX0_solvesBy_0 : List UInt8 := [42, 27, 182, 1, 24, 42, 182, 1, 27, 42, 182, 1, 31, 3, 61, 28, 16, 12, 162, 0, 16, 42]
abbrev dktX0_solvesBy_0 : List UInt8 := dkwX0_solvesBy_0 ++ dktX0_solvesBy_1
theorem dksX0_solvesBy_0 : cX0_solvesBy.data.toList.drop 0 = dktX0_solvesBy_0 := by decide +kernel
theorem dksX0_solvesBy_1 : cX0_solvesBy.data.toList.drop 22 = dktX0_solvesBy_1 := dk_seg dksX0_solvesBy_0 22 rfl rfl
theorem dksX0_solvesBy_2 : cX0_solvesBy.data.toList.drop 46 = dktX0_solvesBy_2 := dk_seg dksX0_solvesBy_1 24 rfl rfl
theorem dX0_solvesBy_0 : decode cX0_solvesBy 0 = .ok (.aload_n 0, 1) := dk_42 (dk_at dksX0_solvesBy_0 0 rfl rfl)
theorem dX0_solvesBy_1 : decode cX0_solvesBy 1 = .ok (.iload_n 1, 1) := dk_27 (dk_at dksX0_solvesBy_0 1 rfl rfl)
theorem dX0_solvesBy_2 : decode cX0_solvesBy 2 = .ok (.invokevirtual 280, 3) := dk_182 1 24 (dk_at dksX0_solvesBy_0 2 rfl rfl)
theorem dX0_solvesBy_5 : decode cX0_solvesBy 5 = .ok (.aload_n 0, 1) := dk_42 (dk_at dksX0_solvesBy_0 5 rfl rfl)
theorem dX0_solvesBy_6 : decode cX0_solvesBy 6 = .ok (.invokevirtual 283, 3) := dk_182 1 27 (dk_at dksX0_solvesBy_0 6 rfl rfl)
theorem dX0_solvesBy_9 : decode cX0_solvesBy 9 = .ok (.aload_n 0, 1) := dk_42 (dk_at dksX0_solvesBy_0 9 rfl rfl)
theorem dX0_solvesBy_10 : decode cX0_solvesBy 10 = .ok (.invokevirtual 287, 3) := dk_182 1 31 (dk_at dksX0_solvesBy_0 10 rfl rfl)
theorem dX0_solvesBy_13 : decode cX0_solvesBy 13 = .ok (.iconst 0, 1) := dk_3 (dk_at dksX0_solvesBy_0 13 rfl rfl)
theorem dX0_solvesBy_14 : decode cX0_solvesBy 14 = .ok (.istore_n 2, 1) := dk_61 (dk_at dksX0_solvesBy_0 14 rfl rfl)
theorem dX0_solvesBy_15 : decode cX0_solvesBy 15 = .ok (.iload_n 2, 1) := dk_28 (dk_at dksX0_solvesBy_0 15 rfl rfl)
theorem dX0_solvesBy_16 : decode cX0_solvesBy 16 = .ok (.bipush 12, 2) := dk_16 12 (dk_at dksX0_solvesBy_0 16 rfl rfl)
theorem dX0_solvesBy_18 : decode cX0_solvesBy 18 = .ok (.if_icmp .ge 16, 3) := dk_162 0 16 (dk_at dksX0_solvesBy_0 18 rfl rfl)
theorem dX0_solvesBy_21 : decode cX0_solvesBy 21 = .ok (.aload_n 0, 1) := dk_42 (dk_at dksX0_solvesBy_0 21 rfl rfl)
theorem dX0_solvesBy_22 : decode cX0_solvesBy 22 = .ok (.getfield 290, 3) := dk_180 1 34 (dk_at dksX0_solvesBy_1 0 rfl rfl)
theorem dX0_solvesBy_25 : decode cX0_solvesBy 25 = .ok (.iload_n 2, 1) := dk_28 (dk_at dksX0_solvesBy_1 3 rfl rfl)
theorem dX0_solvesBy_26 : decode cX0_solvesBy 26 = .ok (.iconst 0, 1) := dk_3 (dk_at dksX0_solvesBy_1 4 rfl rfl)
theorem dX0_solvesBy_27 : decode cX0_solvesBy 27 = .ok (.iastore, 1) := dk_79 (dk_at dksX0_solvesBy_1 5 rfl rfl)
theorem dX0_solvesBy_28 : decode cX0_solvesBy 28 = .ok (.iinc 2 1, 3) := dk_132 2 1 (dk_at dksX0_solvesBy_1 6 rfl rfl)
theorem dX0_solvesBy_31 : decode cX0_solvesBy 31 = .ok (.goto (-16), 3) := dk_167 255 240 (dk_at dksX0_solvesBy_1 9 rfl rfl)
theorem dX0_solvesBy_34 : decode cX0_solvesBy 34 = .ok (.iconst 0, 1) := dk_3 (dk_at dksX0_solvesBy_1 12 rfl rfl)
theorem dX0_solvesBy_35 : decode cX0_solvesBy 35 = .ok (.istore_n 2, 1) := dk_61 (dk_at dksX0_solvesBy_1 13 rfl rfl)
theorem dX0_solvesBy_36 : decode cX0_solvesBy 36 = .ok (.iload_n 2, 1) := dk_28 (dk_at dksX0_solvesBy_1 14 rfl rfl)
theorem dX0_solvesBy_37 : decode cX0_solvesBy 37 = .ok (.aload_n 0, 1) := dk_42 (dk_at dksX0_solvesBy_1 15 rfl rfl)
theorem dX0_solvesBy_38 : decode cX0_solvesBy 38 = .ok (.getfield 11, 3) := dk_180 0 11 (dk_at dksX0_solvesBy_1 16 rfl rfl)
theorem dX0_solvesBy_41 : decode cX0_solvesBy 41 = .ok (.iconst 1, 1) := dk_4 (dk_at dksX0_solvesBy_1 19 rfl rfl)
theorem dX0_solvesBy_42 : decode cX0_solvesBy 42 = .ok (.iaload, 1) := dk_46 (dk_at dksX0_solvesBy_1 20 rfl rfl)
theorem dX0_solvesBy_43 : decode cX0_solvesBy 43 = .ok (.if_icmp .ge 18, 3) := dk_162 0 18 (dk_at dksX0_solvesBy_1 21 rfl rfl)
theorem dX0_solvesBy_46 : decode cX0_solvesBy 46 = .ok (.aload_n 0, 1) := dk_42 (dk_at dksX0_solvesBy_2 0 rfl rfl)
theorem dX0_solvesBy_47 : decode cX0_solvesBy 47 = .ok (.iload_n 2, 1) := dk_28 (dk_at dksX0_solvesBy_2 1 rfl rfl)
theorem dX0_solvesBy_48 : decode cX0_solvesBy 48 = .ok (.aload_n 0, 1) := dk_42 (dk_at dksX0_solvesBy_2 2 rfl rfl)
theorem dX0_solvesBy_49 : decode cX0_solvesBy 49 = .ok (.getfield 290, 3) := dk_180 1 34 (dk_at dksX0_solvesBy_2 3 rfl rfl)
theorem dX0_solvesBy_52 : decode cX0_solvesBy 52 = .ok (.invokevirtual 293, 3) := dk_182 1 37 (dk_at dksX0_solvesBy_2 6 rfl rfl)
theorem dX0_solvesBy_55 : decode cX0_solvesBy 55 = .ok (.iinc 2 1, 3) := dk_132 2 1 (dk_at dksX0_solvesBy_2 9 rfl rfl)
theorem dX0_solvesBy_58 : decode cX0_solvesBy 58 = .ok (.goto (-22), 3) := dk_167 255 234 (dk_at dksX0_solvesBy_2 12 rfl rfl)
theorem dX0_solvesBy_61 : decode cX0_solvesBy 61 = .ok (.return_, 1) := dk_177 (dk_at dksX0_solvesBy_2 15 rfl rfl)
abbrev cX0_votesBy : ByteArray := prog_1_method_30_code
def yX0_votesBy : MethodName := ⟨RX0, "votesBy", "(I)V"⟩
def dkwX0_votesBy_7 : List UInt8 := [132, 4, 1, 167, 255, 165, 132, 3, 1, 167, 255, 144, 177]
abbrev dktX0_votesBy_7 : List UInt8 := dkwX0_votesBy_7 ++ []
def dkwX0_votesBy_6 : List UInt8 := [21, 4, 79, 42, 180, 0, 166, 5, 21, 5, 79, 42, 44, 182, 0, 194, 132, 5, 1, 167, 255, 188]
abbrev dktX0_votesBy_6 : List UInt8 := dkwX0_votesBy_6 ++ dktX0_votesBy_7
def dkwX0_votesBy_5 : List UInt8 := [159, 0, 40, 21, 5, 42, 180, 0, 191, 159, 0, 31, 42, 180, 0, 166, 3, 29, 79, 42, 180, 0, 166, 4]
abbrev dktX0_votesBy_5 : List UInt8 := dkwX0_votesBy_5 ++ dktX0_votesBy_6
def dkwX0_votesBy_4 : List UInt8 := [42, 180, 0, 11, 4, 46, 162, 0, 63, 29, 42, 180, 0, 191, 159, 0, 49, 21, 4, 42, 180, 0, 191]
abbrev dktX0_votesBy_4 : List UInt8 := dkwX0_votesBy_4 ++ dktX0_votesBy_5
def dkwX0_votesBy_3 : List UInt8 := [29, 4, 96, 54, 4, 21, 4, 42, 180, 0, 11, 4, 46, 162, 0, 86, 21, 4, 4, 96, 54, 5, 21, 5]
abbrev dktX0_votesBy_3 : List UInt8 := dkwX0_votesBy_3 ++ dktX0_votesBy_4
def dkwX0_votesBy_2 : List UInt8 := [132, 4, 1, 167, 255, 236, 132, 3, 1, 167, 255, 221, 3, 62, 29, 42, 180, 0, 11, 4, 46, 162, 0, 108]
abbrev dktX0_votesBy_2 : List UInt8 := dkwX0_votesBy_2 ++ dktX0_votesBy_3
def dkwX0_votesBy_1 : List UInt8 := [162, 0, 35, 3, 54, 4, 21, 4, 16, 12, 162, 0, 19, 42, 180, 0, 156, 29, 50, 21, 4, 3, 79]
abbrev dktX0_votesBy_1 : List UInt8 := dkwX0_votesBy_1 ++ dktX0_votesBy_2
def dkwX0_votesBy_0 : List UInt8 := [27, 186, 0, 188, 0, 0, 77, 42, 3, 181, 0, 163, 42, 3, 181, 0, 160, 3, 62, 29, 16, 8]
abbrev dktX0_votesBy_0 : List UInt8 := dkwX0_votesBy_0 ++ dktX0_votesBy_1
theorem dksX0_votesBy_0 : cX0_votesBy.data.toList.drop 0 = dktX0_votesBy_0 := by decide +kernel
theorem dksX0_votesBy_1 : cX0_votesBy.data.toList.drop 22 = dktX0_votesBy_1 := dk_seg dksX0_votesBy_0 22 rfl rfl
theorem dksX0_votesBy_2 : cX0_votesBy.data.toList.drop 45 = dktX0_votesBy_2 := dk_seg dksX0_votesBy_1 23 rfl rfl
theorem dksX0_votesBy_3 : cX0_votesBy.data.toList.drop 69 = dktX0_votesBy_3 := dk_seg dksX0_votesBy_2 24 rfl rfl
theorem dksX0_votesBy_4 : cX0_votesBy.data.toList.drop 93 = dktX0_votesBy_4 := dk_seg dksX0_votesBy_3 24 rfl rfl
theorem dksX0_votesBy_5 : cX0_votesBy.data.toList.drop 116 = dktX0_votesBy_5 := dk_seg dksX0_votesBy_4 23 rfl rfl
theorem dksX0_votesBy_6 : cX0_votesBy.data.toList.drop 140 = dktX0_votesBy_6 := dk_seg dksX0_votesBy_5 24 rfl rfl
theorem dksX0_votesBy_7 : cX0_votesBy.data.toList.drop 162 = dktX0_votesBy_7 := dk_seg dksX0_votesBy_6 22 rfl rfl
theorem dX0_votesBy_0 : decode cX0_votesBy 0 = .ok (.iload_n 1, 1) := dk_27 (dk_at dksX0_votesBy_0 0 rfl rfl)
theorem dX0_votesBy_1 : decode cX0_votesBy 1 = .ok (.invokedynamic 188, 5) := by decide +kernel
theorem dX0_votesBy_6 : decode cX0_votesBy 6 = .ok (.astore_n 2, 1) := dk_77 (dk_at dksX0_votesBy_0 6 rfl rfl)
theorem dX0_votesBy_7 : decode cX0_votesBy 7 = .ok (.aload_n 0, 1) := dk_42 (dk_at dksX0_votesBy_0 7 rfl rfl)
theorem dX0_votesBy_8 : decode cX0_votesBy 8 = .ok (.iconst 0, 1) := dk_3 (dk_at dksX0_votesBy_0 8 rfl rfl)
theorem dX0_votesBy_9 : decode cX0_votesBy 9 = .ok (.putfield 163, 3) := dk_181 0 163 (dk_at dksX0_votesBy_0 9 rfl rfl)
theorem dX0_votesBy_12 : decode cX0_votesBy 12 = .ok (.aload_n 0, 1) := dk_42 (dk_at dksX0_votesBy_0 12 rfl rfl)
theorem dX0_votesBy_13 : decode cX0_votesBy 13 = .ok (.iconst 0, 1) := dk_3 (dk_at dksX0_votesBy_0 13 rfl rfl)
theorem dX0_votesBy_14 : decode cX0_votesBy 14 = .ok (.putfield 160, 3) := dk_181 0 160 (dk_at dksX0_votesBy_0 14 rfl rfl)
theorem dX0_votesBy_17 : decode cX0_votesBy 17 = .ok (.iconst 0, 1) := dk_3 (dk_at dksX0_votesBy_0 17 rfl rfl)
theorem dX0_votesBy_18 : decode cX0_votesBy 18 = .ok (.istore_n 3, 1) := dk_62 (dk_at dksX0_votesBy_0 18 rfl rfl)
theorem dX0_votesBy_19 : decode cX0_votesBy 19 = .ok (.iload_n 3, 1) := dk_29 (dk_at dksX0_votesBy_0 19 rfl rfl)
theorem dX0_votesBy_20 : decode cX0_votesBy 20 = .ok (.bipush 8, 2) := dk_16 8 (dk_at dksX0_votesBy_0 20 rfl rfl)
theorem dX0_votesBy_22 : decode cX0_votesBy 22 = .ok (.if_icmp .ge 35, 3) := dk_162 0 35 (dk_at dksX0_votesBy_1 0 rfl rfl)
theorem dX0_votesBy_25 : decode cX0_votesBy 25 = .ok (.iconst 0, 1) := dk_3 (dk_at dksX0_votesBy_1 3 rfl rfl)
theorem dX0_votesBy_26 : decode cX0_votesBy 26 = .ok (.istore 4, 2) := dk_54 4 (dk_at dksX0_votesBy_1 4 rfl rfl)
theorem dX0_votesBy_28 : decode cX0_votesBy 28 = .ok (.iload 4, 2) := dk_21 4 (dk_at dksX0_votesBy_1 6 rfl rfl)
theorem dX0_votesBy_30 : decode cX0_votesBy 30 = .ok (.bipush 12, 2) := dk_16 12 (dk_at dksX0_votesBy_1 8 rfl rfl)
theorem dX0_votesBy_32 : decode cX0_votesBy 32 = .ok (.if_icmp .ge 19, 3) := dk_162 0 19 (dk_at dksX0_votesBy_1 10 rfl rfl)
theorem dX0_votesBy_35 : decode cX0_votesBy 35 = .ok (.aload_n 0, 1) := dk_42 (dk_at dksX0_votesBy_1 13 rfl rfl)
theorem dX0_votesBy_36 : decode cX0_votesBy 36 = .ok (.getfield 156, 3) := dk_180 0 156 (dk_at dksX0_votesBy_1 14 rfl rfl)
theorem dX0_votesBy_39 : decode cX0_votesBy 39 = .ok (.iload_n 3, 1) := dk_29 (dk_at dksX0_votesBy_1 17 rfl rfl)
theorem dX0_votesBy_40 : decode cX0_votesBy 40 = .ok (.aaload, 1) := dk_50 (dk_at dksX0_votesBy_1 18 rfl rfl)
theorem dX0_votesBy_41 : decode cX0_votesBy 41 = .ok (.iload 4, 2) := dk_21 4 (dk_at dksX0_votesBy_1 19 rfl rfl)
theorem dX0_votesBy_43 : decode cX0_votesBy 43 = .ok (.iconst 0, 1) := dk_3 (dk_at dksX0_votesBy_1 21 rfl rfl)
theorem dX0_votesBy_44 : decode cX0_votesBy 44 = .ok (.iastore, 1) := dk_79 (dk_at dksX0_votesBy_1 22 rfl rfl)
theorem dX0_votesBy_45 : decode cX0_votesBy 45 = .ok (.iinc 4 1, 3) := dk_132 4 1 (dk_at dksX0_votesBy_2 0 rfl rfl)
theorem dX0_votesBy_48 : decode cX0_votesBy 48 = .ok (.goto (-20), 3) := dk_167 255 236 (dk_at dksX0_votesBy_2 3 rfl rfl)
theorem dX0_votesBy_51 : decode cX0_votesBy 51 = .ok (.iinc 3 1, 3) := dk_132 3 1 (dk_at dksX0_votesBy_2 6 rfl rfl)
theorem dX0_votesBy_54 : decode cX0_votesBy 54 = .ok (.goto (-35), 3) := dk_167 255 221 (dk_at dksX0_votesBy_2 9 rfl rfl)
theorem dX0_votesBy_57 : decode cX0_votesBy 57 = .ok (.iconst 0, 1) := dk_3 (dk_at dksX0_votesBy_2 12 rfl rfl)
theorem dX0_votesBy_58 : decode cX0_votesBy 58 = .ok (.istore_n 3, 1) := dk_62 (dk_at dksX0_votesBy_2 13 rfl rfl)
theorem dX0_votesBy_59 : decode cX0_votesBy 59 = .ok (.iload_n 3, 1) := dk_29 (dk_at dksX0_votesBy_2 14 rfl rfl)
theorem dX0_votesBy_60 : decode cX0_votesBy 60 = .ok (.aload_n 0, 1) := dk_42 (dk_at dksX0_votesBy_2 15 rfl rfl)
theorem dX0_votesBy_61 : decode cX0_votesBy 61 = .ok (.getfield 11, 3) := dk_180 0 11 (dk_at dksX0_votesBy_2 16 rfl rfl)
theorem dX0_votesBy_64 : decode cX0_votesBy 64 = .ok (.iconst 1, 1) := dk_4 (dk_at dksX0_votesBy_2 19 rfl rfl)
theorem dX0_votesBy_65 : decode cX0_votesBy 65 = .ok (.iaload, 1) := dk_46 (dk_at dksX0_votesBy_2 20 rfl rfl)
theorem dX0_votesBy_66 : decode cX0_votesBy 66 = .ok (.if_icmp .ge 108, 3) := dk_162 0 108 (dk_at dksX0_votesBy_2 21 rfl rfl)
theorem dX0_votesBy_69 : decode cX0_votesBy 69 = .ok (.iload_n 3, 1) := dk_29 (dk_at dksX0_votesBy_3 0 rfl rfl)
theorem dX0_votesBy_70 : decode cX0_votesBy 70 = .ok (.iconst 1, 1) := dk_4 (dk_at dksX0_votesBy_3 1 rfl rfl)
theorem dX0_votesBy_71 : decode cX0_votesBy 71 = .ok (.iadd, 1) := dk_96 (dk_at dksX0_votesBy_3 2 rfl rfl)
theorem dX0_votesBy_72 : decode cX0_votesBy 72 = .ok (.istore 4, 2) := dk_54 4 (dk_at dksX0_votesBy_3 3 rfl rfl)
theorem dX0_votesBy_74 : decode cX0_votesBy 74 = .ok (.iload 4, 2) := dk_21 4 (dk_at dksX0_votesBy_3 5 rfl rfl)
theorem dX0_votesBy_76 : decode cX0_votesBy 76 = .ok (.aload_n 0, 1) := dk_42 (dk_at dksX0_votesBy_3 7 rfl rfl)
theorem dX0_votesBy_77 : decode cX0_votesBy 77 = .ok (.getfield 11, 3) := dk_180 0 11 (dk_at dksX0_votesBy_3 8 rfl rfl)
theorem dX0_votesBy_80 : decode cX0_votesBy 80 = .ok (.iconst 1, 1) := dk_4 (dk_at dksX0_votesBy_3 11 rfl rfl)
theorem dX0_votesBy_81 : decode cX0_votesBy 81 = .ok (.iaload, 1) := dk_46 (dk_at dksX0_votesBy_3 12 rfl rfl)
theorem dX0_votesBy_82 : decode cX0_votesBy 82 = .ok (.if_icmp .ge 86, 3) := dk_162 0 86 (dk_at dksX0_votesBy_3 13 rfl rfl)
theorem dX0_votesBy_85 : decode cX0_votesBy 85 = .ok (.iload 4, 2) := dk_21 4 (dk_at dksX0_votesBy_3 16 rfl rfl)
theorem dX0_votesBy_87 : decode cX0_votesBy 87 = .ok (.iconst 1, 1) := dk_4 (dk_at dksX0_votesBy_3 18 rfl rfl)
theorem dX0_votesBy_88 : decode cX0_votesBy 88 = .ok (.iadd, 1) := dk_96 (dk_at dksX0_votesBy_3 19 rfl rfl)
theorem dX0_votesBy_89 : decode cX0_votesBy 89 = .ok (.istore 5, 2) := dk_54 5 (dk_at dksX0_votesBy_3 20 rfl rfl)
theorem dX0_votesBy_91 : decode cX0_votesBy 91 = .ok (.iload 5, 2) := dk_21 5 (dk_at dksX0_votesBy_3 22 rfl rfl)
theorem dX0_votesBy_93 : decode cX0_votesBy 93 = .ok (.aload_n 0, 1) := dk_42 (dk_at dksX0_votesBy_4 0 rfl rfl)
theorem dX0_votesBy_94 : decode cX0_votesBy 94 = .ok (.getfield 11, 3) := dk_180 0 11 (dk_at dksX0_votesBy_4 1 rfl rfl)
theorem dX0_votesBy_97 : decode cX0_votesBy 97 = .ok (.iconst 1, 1) := dk_4 (dk_at dksX0_votesBy_4 4 rfl rfl)
theorem dX0_votesBy_98 : decode cX0_votesBy 98 = .ok (.iaload, 1) := dk_46 (dk_at dksX0_votesBy_4 5 rfl rfl)
theorem dX0_votesBy_99 : decode cX0_votesBy 99 = .ok (.if_icmp .ge 63, 3) := dk_162 0 63 (dk_at dksX0_votesBy_4 6 rfl rfl)
theorem dX0_votesBy_102 : decode cX0_votesBy 102 = .ok (.iload_n 3, 1) := dk_29 (dk_at dksX0_votesBy_4 9 rfl rfl)
theorem dX0_votesBy_103 : decode cX0_votesBy 103 = .ok (.aload_n 0, 1) := dk_42 (dk_at dksX0_votesBy_4 10 rfl rfl)
theorem dX0_votesBy_104 : decode cX0_votesBy 104 = .ok (.getfield 191, 3) := dk_180 0 191 (dk_at dksX0_votesBy_4 11 rfl rfl)
theorem dX0_votesBy_107 : decode cX0_votesBy 107 = .ok (.if_icmp .eq 49, 3) := dk_159 0 49 (dk_at dksX0_votesBy_4 14 rfl rfl)
theorem dX0_votesBy_110 : decode cX0_votesBy 110 = .ok (.iload 4, 2) := dk_21 4 (dk_at dksX0_votesBy_4 17 rfl rfl)
theorem dX0_votesBy_112 : decode cX0_votesBy 112 = .ok (.aload_n 0, 1) := dk_42 (dk_at dksX0_votesBy_4 19 rfl rfl)
theorem dX0_votesBy_113 : decode cX0_votesBy 113 = .ok (.getfield 191, 3) := dk_180 0 191 (dk_at dksX0_votesBy_4 20 rfl rfl)
theorem dX0_votesBy_116 : decode cX0_votesBy 116 = .ok (.if_icmp .eq 40, 3) := dk_159 0 40 (dk_at dksX0_votesBy_5 0 rfl rfl)
theorem dX0_votesBy_119 : decode cX0_votesBy 119 = .ok (.iload 5, 2) := dk_21 5 (dk_at dksX0_votesBy_5 3 rfl rfl)
theorem dX0_votesBy_121 : decode cX0_votesBy 121 = .ok (.aload_n 0, 1) := dk_42 (dk_at dksX0_votesBy_5 5 rfl rfl)
theorem dX0_votesBy_122 : decode cX0_votesBy 122 = .ok (.getfield 191, 3) := dk_180 0 191 (dk_at dksX0_votesBy_5 6 rfl rfl)
theorem dX0_votesBy_125 : decode cX0_votesBy 125 = .ok (.if_icmp .eq 31, 3) := dk_159 0 31 (dk_at dksX0_votesBy_5 9 rfl rfl)
theorem dX0_votesBy_128 : decode cX0_votesBy 128 = .ok (.aload_n 0, 1) := dk_42 (dk_at dksX0_votesBy_5 12 rfl rfl)
theorem dX0_votesBy_129 : decode cX0_votesBy 129 = .ok (.getfield 166, 3) := dk_180 0 166 (dk_at dksX0_votesBy_5 13 rfl rfl)
theorem dX0_votesBy_132 : decode cX0_votesBy 132 = .ok (.iconst 0, 1) := dk_3 (dk_at dksX0_votesBy_5 16 rfl rfl)
theorem dX0_votesBy_133 : decode cX0_votesBy 133 = .ok (.iload_n 3, 1) := dk_29 (dk_at dksX0_votesBy_5 17 rfl rfl)
theorem dX0_votesBy_134 : decode cX0_votesBy 134 = .ok (.iastore, 1) := dk_79 (dk_at dksX0_votesBy_5 18 rfl rfl)
theorem dX0_votesBy_135 : decode cX0_votesBy 135 = .ok (.aload_n 0, 1) := dk_42 (dk_at dksX0_votesBy_5 19 rfl rfl)
theorem dX0_votesBy_136 : decode cX0_votesBy 136 = .ok (.getfield 166, 3) := dk_180 0 166 (dk_at dksX0_votesBy_5 20 rfl rfl)
theorem dX0_votesBy_139 : decode cX0_votesBy 139 = .ok (.iconst 1, 1) := dk_4 (dk_at dksX0_votesBy_5 23 rfl rfl)
theorem dX0_votesBy_140 : decode cX0_votesBy 140 = .ok (.iload 4, 2) := dk_21 4 (dk_at dksX0_votesBy_6 0 rfl rfl)
theorem dX0_votesBy_142 : decode cX0_votesBy 142 = .ok (.iastore, 1) := dk_79 (dk_at dksX0_votesBy_6 2 rfl rfl)
theorem dX0_votesBy_143 : decode cX0_votesBy 143 = .ok (.aload_n 0, 1) := dk_42 (dk_at dksX0_votesBy_6 3 rfl rfl)
theorem dX0_votesBy_144 : decode cX0_votesBy 144 = .ok (.getfield 166, 3) := dk_180 0 166 (dk_at dksX0_votesBy_6 4 rfl rfl)
theorem dX0_votesBy_147 : decode cX0_votesBy 147 = .ok (.iconst 2, 1) := dk_5 (dk_at dksX0_votesBy_6 7 rfl rfl)
theorem dX0_votesBy_148 : decode cX0_votesBy 148 = .ok (.iload 5, 2) := dk_21 5 (dk_at dksX0_votesBy_6 8 rfl rfl)
theorem dX0_votesBy_150 : decode cX0_votesBy 150 = .ok (.iastore, 1) := dk_79 (dk_at dksX0_votesBy_6 10 rfl rfl)
theorem dX0_votesBy_151 : decode cX0_votesBy 151 = .ok (.aload_n 0, 1) := dk_42 (dk_at dksX0_votesBy_6 11 rfl rfl)
theorem dX0_votesBy_152 : decode cX0_votesBy 152 = .ok (.aload_n 2, 1) := dk_44 (dk_at dksX0_votesBy_6 12 rfl rfl)
theorem dX0_votesBy_153 : decode cX0_votesBy 153 = .ok (.invokevirtual 194, 3) := dk_182 0 194 (dk_at dksX0_votesBy_6 13 rfl rfl)
theorem dX0_votesBy_156 : decode cX0_votesBy 156 = .ok (.iinc 5 1, 3) := dk_132 5 1 (dk_at dksX0_votesBy_6 16 rfl rfl)
theorem dX0_votesBy_159 : decode cX0_votesBy 159 = .ok (.goto (-68), 3) := dk_167 255 188 (dk_at dksX0_votesBy_6 19 rfl rfl)
theorem dX0_votesBy_162 : decode cX0_votesBy 162 = .ok (.iinc 4 1, 3) := dk_132 4 1 (dk_at dksX0_votesBy_7 0 rfl rfl)
theorem dX0_votesBy_165 : decode cX0_votesBy 165 = .ok (.goto (-91), 3) := dk_167 255 165 (dk_at dksX0_votesBy_7 3 rfl rfl)
theorem dX0_votesBy_168 : decode cX0_votesBy 168 = .ok (.iinc 3 1, 3) := dk_132 3 1 (dk_at dksX0_votesBy_7 6 rfl rfl)
theorem dX0_votesBy_171 : decode cX0_votesBy 171 = .ok (.goto (-112), 3) := dk_167 255 144 (dk_at dksX0_votesBy_7 9 rfl rfl)
theorem dX0_votesBy_174 : decode cX0_votesBy 174 = .ok (.return_, 1) := dk_177 (dk_at dksX0_votesBy_7 12 rfl rfl)
abbrev cX0_lambda_votesBy_2 : ByteArray := prog_1_method_94_code
def yX0_lambda_votesBy_2 : MethodName := ⟨RX0, "lambda$votesBy$2", "(III)Z"⟩
def dkwX0_lambda_votesBy_2_0 : List UInt8 := [27, 28, 100, 184, 1, 12, 26, 163, 0, 7, 4, 167, 0, 4, 3, 172]
abbrev dktX0_lambda_votesBy_2_0 : List UInt8 := dkwX0_lambda_votesBy_2_0 ++ []
theorem dksX0_lambda_votesBy_2_0 : cX0_lambda_votesBy_2.data.toList.drop 0 = dktX0_lambda_votesBy_2_0 := by decide +kernel
theorem dX0_lambda_votesBy_2_0 : decode cX0_lambda_votesBy_2 0 = .ok (.iload_n 1, 1) := dk_27 (dk_at dksX0_lambda_votesBy_2_0 0 rfl rfl)
theorem dX0_lambda_votesBy_2_1 : decode cX0_lambda_votesBy_2 1 = .ok (.iload_n 2, 1) := dk_28 (dk_at dksX0_lambda_votesBy_2_0 1 rfl rfl)
theorem dX0_lambda_votesBy_2_2 : decode cX0_lambda_votesBy_2 2 = .ok (.isub, 1) := dk_100 (dk_at dksX0_lambda_votesBy_2_0 2 rfl rfl)
theorem dX0_lambda_votesBy_2_3 : decode cX0_lambda_votesBy_2 3 = .ok (.invokestatic 268, 3) := dk_184 1 12 (dk_at dksX0_lambda_votesBy_2_0 3 rfl rfl)
theorem dX0_lambda_votesBy_2_6 : decode cX0_lambda_votesBy_2 6 = .ok (.iload_n 0, 1) := dk_26 (dk_at dksX0_lambda_votesBy_2_0 6 rfl rfl)
theorem dX0_lambda_votesBy_2_7 : decode cX0_lambda_votesBy_2 7 = .ok (.if_icmp .gt 7, 3) := dk_163 0 7 (dk_at dksX0_lambda_votesBy_2_0 7 rfl rfl)
theorem dX0_lambda_votesBy_2_10 : decode cX0_lambda_votesBy_2 10 = .ok (.iconst 1, 1) := dk_4 (dk_at dksX0_lambda_votesBy_2_0 10 rfl rfl)
theorem dX0_lambda_votesBy_2_11 : decode cX0_lambda_votesBy_2 11 = .ok (.goto 4, 3) := dk_167 0 4 (dk_at dksX0_lambda_votesBy_2_0 11 rfl rfl)
theorem dX0_lambda_votesBy_2_14 : decode cX0_lambda_votesBy_2 14 = .ok (.iconst 0, 1) := dk_3 (dk_at dksX0_lambda_votesBy_2_0 14 rfl rfl)
theorem dX0_lambda_votesBy_2_15 : decode cX0_lambda_votesBy_2 15 = .ok (.ireturn, 1) := dk_172 (dk_at dksX0_lambda_votesBy_2_0 15 rfl rfl)
abbrev cX0_holdsAgainst : ByteArray := prog_1_method_29_code
def yX0_holdsAgainst : MethodName := ⟨RX0, "holdsAgainst", "(LStarTracker$Fit;)V"⟩
def dkwX0_holdsAgainst_5 : List UInt8 := [167, 255, 181, 132, 2, 1, 167, 255, 161, 177]
abbrev dktX0_holdsAgainst_5 : List UInt8 := dkwX0_holdsAgainst_5 ++ []
def dkwX0_holdsAgainst_4 : List UInt8 := [184, 0, 180, 153, 0, 12, 42, 43, 28, 29, 21, 4, 182, 0, 184, 132, 4, 1, 167, 255, 202, 132, 3, 1]
abbrev dktX0_holdsAgainst_4 : List UInt8 := dkwX0_holdsAgainst_4 ++ dktX0_holdsAgainst_5
def dkwX0_holdsAgainst_3 : List UInt8 := [29, 21, 4, 42, 180, 0, 173, 182, 0, 143, 42, 180, 0, 176, 42, 180, 0, 140, 42, 180, 0, 173]
abbrev dktX0_holdsAgainst_3 : List UInt8 := dkwX0_holdsAgainst_3 ++ dktX0_holdsAgainst_4
def dkwX0_holdsAgainst_2 : List UInt8 := [3, 46, 162, 0, 71, 29, 4, 96, 54, 4, 21, 4, 42, 180, 0, 11, 3, 46, 162, 0, 49, 42, 3, 28]
abbrev dktX0_holdsAgainst_2 : List UInt8 := dkwX0_holdsAgainst_2 ++ dktX0_holdsAgainst_3
def dkwX0_holdsAgainst_1 : List UInt8 := [182, 0, 143, 3, 61, 28, 42, 180, 0, 11, 3, 46, 162, 0, 91, 28, 4, 96, 62, 29, 42, 180, 0, 11]
abbrev dktX0_holdsAgainst_1 : List UInt8 := dkwX0_holdsAgainst_1 ++ dktX0_holdsAgainst_2
def dkwX0_holdsAgainst_0 : List UInt8 := [42, 4, 42, 180, 0, 166, 3, 46, 42, 180, 0, 166, 4, 46, 42, 180, 0, 166, 5, 46, 42, 180, 0, 140]
abbrev dktX0_holdsAgainst_0 : List UInt8 := dkwX0_holdsAgainst_0 ++ dktX0_holdsAgainst_1
theorem dksX0_holdsAgainst_0 : cX0_holdsAgainst.data.toList.drop 0 = dktX0_holdsAgainst_0 := by decide +kernel
theorem dksX0_holdsAgainst_1 : cX0_holdsAgainst.data.toList.drop 24 = dktX0_holdsAgainst_1 := dk_seg dksX0_holdsAgainst_0 24 rfl rfl
theorem dksX0_holdsAgainst_2 : cX0_holdsAgainst.data.toList.drop 48 = dktX0_holdsAgainst_2 := dk_seg dksX0_holdsAgainst_1 24 rfl rfl
theorem dksX0_holdsAgainst_3 : cX0_holdsAgainst.data.toList.drop 72 = dktX0_holdsAgainst_3 := dk_seg dksX0_holdsAgainst_2 24 rfl rfl
theorem dksX0_holdsAgainst_4 : cX0_holdsAgainst.data.toList.drop 94 = dktX0_holdsAgainst_4 := dk_seg dksX0_holdsAgainst_3 22 rfl rfl
theorem dksX0_holdsAgainst_5 : cX0_holdsAgainst.data.toList.drop 118 = dktX0_holdsAgainst_5 := dk_seg dksX0_holdsAgainst_4 24 rfl rfl
theorem dX0_holdsAgainst_0 : decode cX0_holdsAgainst 0 = .ok (.aload_n 0, 1) := dk_42 (dk_at dksX0_holdsAgainst_0 0 rfl rfl)
theorem dX0_holdsAgainst_1 : decode cX0_holdsAgainst 1 = .ok (.iconst 1, 1) := dk_4 (dk_at dksX0_holdsAgainst_0 1 rfl rfl)
theorem dX0_holdsAgainst_2 : decode cX0_holdsAgainst 2 = .ok (.aload_n 0, 1) := dk_42 (dk_at dksX0_holdsAgainst_0 2 rfl rfl)
theorem dX0_holdsAgainst_3 : decode cX0_holdsAgainst 3 = .ok (.getfield 166, 3) := dk_180 0 166 (dk_at dksX0_holdsAgainst_0 3 rfl rfl)
theorem dX0_holdsAgainst_6 : decode cX0_holdsAgainst 6 = .ok (.iconst 0, 1) := dk_3 (dk_at dksX0_holdsAgainst_0 6 rfl rfl)
theorem dX0_holdsAgainst_7 : decode cX0_holdsAgainst 7 = .ok (.iaload, 1) := dk_46 (dk_at dksX0_holdsAgainst_0 7 rfl rfl)
theorem dX0_holdsAgainst_8 : decode cX0_holdsAgainst 8 = .ok (.aload_n 0, 1) := dk_42 (dk_at dksX0_holdsAgainst_0 8 rfl rfl)
theorem dX0_holdsAgainst_9 : decode cX0_holdsAgainst 9 = .ok (.getfield 166, 3) := dk_180 0 166 (dk_at dksX0_holdsAgainst_0 9 rfl rfl)
theorem dX0_holdsAgainst_12 : decode cX0_holdsAgainst 12 = .ok (.iconst 1, 1) := dk_4 (dk_at dksX0_holdsAgainst_0 12 rfl rfl)
theorem dX0_holdsAgainst_13 : decode cX0_holdsAgainst 13 = .ok (.iaload, 1) := dk_46 (dk_at dksX0_holdsAgainst_0 13 rfl rfl)
theorem dX0_holdsAgainst_14 : decode cX0_holdsAgainst 14 = .ok (.aload_n 0, 1) := dk_42 (dk_at dksX0_holdsAgainst_0 14 rfl rfl)
theorem dX0_holdsAgainst_15 : decode cX0_holdsAgainst 15 = .ok (.getfield 166, 3) := dk_180 0 166 (dk_at dksX0_holdsAgainst_0 15 rfl rfl)
theorem dX0_holdsAgainst_18 : decode cX0_holdsAgainst 18 = .ok (.iconst 2, 1) := dk_5 (dk_at dksX0_holdsAgainst_0 18 rfl rfl)
theorem dX0_holdsAgainst_19 : decode cX0_holdsAgainst 19 = .ok (.iaload, 1) := dk_46 (dk_at dksX0_holdsAgainst_0 19 rfl rfl)
theorem dX0_holdsAgainst_20 : decode cX0_holdsAgainst 20 = .ok (.aload_n 0, 1) := dk_42 (dk_at dksX0_holdsAgainst_0 20 rfl rfl)
theorem dX0_holdsAgainst_21 : decode cX0_holdsAgainst 21 = .ok (.getfield 140, 3) := dk_180 0 140 (dk_at dksX0_holdsAgainst_0 21 rfl rfl)
theorem dX0_holdsAgainst_24 : decode cX0_holdsAgainst 24 = .ok (.invokevirtual 143, 3) := dk_182 0 143 (dk_at dksX0_holdsAgainst_1 0 rfl rfl)
theorem dX0_holdsAgainst_27 : decode cX0_holdsAgainst 27 = .ok (.iconst 0, 1) := dk_3 (dk_at dksX0_holdsAgainst_1 3 rfl rfl)
theorem dX0_holdsAgainst_28 : decode cX0_holdsAgainst 28 = .ok (.istore_n 2, 1) := dk_61 (dk_at dksX0_holdsAgainst_1 4 rfl rfl)
theorem dX0_holdsAgainst_29 : decode cX0_holdsAgainst 29 = .ok (.iload_n 2, 1) := dk_28 (dk_at dksX0_holdsAgainst_1 5 rfl rfl)
theorem dX0_holdsAgainst_30 : decode cX0_holdsAgainst 30 = .ok (.aload_n 0, 1) := dk_42 (dk_at dksX0_holdsAgainst_1 6 rfl rfl)
theorem dX0_holdsAgainst_31 : decode cX0_holdsAgainst 31 = .ok (.getfield 11, 3) := dk_180 0 11 (dk_at dksX0_holdsAgainst_1 7 rfl rfl)
theorem dX0_holdsAgainst_34 : decode cX0_holdsAgainst 34 = .ok (.iconst 0, 1) := dk_3 (dk_at dksX0_holdsAgainst_1 10 rfl rfl)
theorem dX0_holdsAgainst_35 : decode cX0_holdsAgainst 35 = .ok (.iaload, 1) := dk_46 (dk_at dksX0_holdsAgainst_1 11 rfl rfl)
theorem dX0_holdsAgainst_36 : decode cX0_holdsAgainst 36 = .ok (.if_icmp .ge 91, 3) := dk_162 0 91 (dk_at dksX0_holdsAgainst_1 12 rfl rfl)
theorem dX0_holdsAgainst_39 : decode cX0_holdsAgainst 39 = .ok (.iload_n 2, 1) := dk_28 (dk_at dksX0_holdsAgainst_1 15 rfl rfl)
theorem dX0_holdsAgainst_40 : decode cX0_holdsAgainst 40 = .ok (.iconst 1, 1) := dk_4 (dk_at dksX0_holdsAgainst_1 16 rfl rfl)
theorem dX0_holdsAgainst_41 : decode cX0_holdsAgainst 41 = .ok (.iadd, 1) := dk_96 (dk_at dksX0_holdsAgainst_1 17 rfl rfl)
theorem dX0_holdsAgainst_42 : decode cX0_holdsAgainst 42 = .ok (.istore_n 3, 1) := dk_62 (dk_at dksX0_holdsAgainst_1 18 rfl rfl)
theorem dX0_holdsAgainst_43 : decode cX0_holdsAgainst 43 = .ok (.iload_n 3, 1) := dk_29 (dk_at dksX0_holdsAgainst_1 19 rfl rfl)
theorem dX0_holdsAgainst_44 : decode cX0_holdsAgainst 44 = .ok (.aload_n 0, 1) := dk_42 (dk_at dksX0_holdsAgainst_1 20 rfl rfl)
theorem dX0_holdsAgainst_45 : decode cX0_holdsAgainst 45 = .ok (.getfield 11, 3) := dk_180 0 11 (dk_at dksX0_holdsAgainst_1 21 rfl rfl)
theorem dX0_holdsAgainst_48 : decode cX0_holdsAgainst 48 = .ok (.iconst 0, 1) := dk_3 (dk_at dksX0_holdsAgainst_2 0 rfl rfl)
theorem dX0_holdsAgainst_49 : decode cX0_holdsAgainst 49 = .ok (.iaload, 1) := dk_46 (dk_at dksX0_holdsAgainst_2 1 rfl rfl)
theorem dX0_holdsAgainst_50 : decode cX0_holdsAgainst 50 = .ok (.if_icmp .ge 71, 3) := dk_162 0 71 (dk_at dksX0_holdsAgainst_2 2 rfl rfl)
theorem dX0_holdsAgainst_53 : decode cX0_holdsAgainst 53 = .ok (.iload_n 3, 1) := dk_29 (dk_at dksX0_holdsAgainst_2 5 rfl rfl)
theorem dX0_holdsAgainst_54 : decode cX0_holdsAgainst 54 = .ok (.iconst 1, 1) := dk_4 (dk_at dksX0_holdsAgainst_2 6 rfl rfl)
theorem dX0_holdsAgainst_55 : decode cX0_holdsAgainst 55 = .ok (.iadd, 1) := dk_96 (dk_at dksX0_holdsAgainst_2 7 rfl rfl)
theorem dX0_holdsAgainst_56 : decode cX0_holdsAgainst 56 = .ok (.istore 4, 2) := dk_54 4 (dk_at dksX0_holdsAgainst_2 8 rfl rfl)
theorem dX0_holdsAgainst_58 : decode cX0_holdsAgainst 58 = .ok (.iload 4, 2) := dk_21 4 (dk_at dksX0_holdsAgainst_2 10 rfl rfl)
theorem dX0_holdsAgainst_60 : decode cX0_holdsAgainst 60 = .ok (.aload_n 0, 1) := dk_42 (dk_at dksX0_holdsAgainst_2 12 rfl rfl)
theorem dX0_holdsAgainst_61 : decode cX0_holdsAgainst 61 = .ok (.getfield 11, 3) := dk_180 0 11 (dk_at dksX0_holdsAgainst_2 13 rfl rfl)
theorem dX0_holdsAgainst_64 : decode cX0_holdsAgainst 64 = .ok (.iconst 0, 1) := dk_3 (dk_at dksX0_holdsAgainst_2 16 rfl rfl)
theorem dX0_holdsAgainst_65 : decode cX0_holdsAgainst 65 = .ok (.iaload, 1) := dk_46 (dk_at dksX0_holdsAgainst_2 17 rfl rfl)
theorem dX0_holdsAgainst_66 : decode cX0_holdsAgainst 66 = .ok (.if_icmp .ge 49, 3) := dk_162 0 49 (dk_at dksX0_holdsAgainst_2 18 rfl rfl)
theorem dX0_holdsAgainst_69 : decode cX0_holdsAgainst 69 = .ok (.aload_n 0, 1) := dk_42 (dk_at dksX0_holdsAgainst_2 21 rfl rfl)
theorem dX0_holdsAgainst_70 : decode cX0_holdsAgainst 70 = .ok (.iconst 0, 1) := dk_3 (dk_at dksX0_holdsAgainst_2 22 rfl rfl)
theorem dX0_holdsAgainst_71 : decode cX0_holdsAgainst 71 = .ok (.iload_n 2, 1) := dk_28 (dk_at dksX0_holdsAgainst_2 23 rfl rfl)
theorem dX0_holdsAgainst_72 : decode cX0_holdsAgainst 72 = .ok (.iload_n 3, 1) := dk_29 (dk_at dksX0_holdsAgainst_3 0 rfl rfl)
theorem dX0_holdsAgainst_73 : decode cX0_holdsAgainst 73 = .ok (.iload 4, 2) := dk_21 4 (dk_at dksX0_holdsAgainst_3 1 rfl rfl)
theorem dX0_holdsAgainst_75 : decode cX0_holdsAgainst 75 = .ok (.aload_n 0, 1) := dk_42 (dk_at dksX0_holdsAgainst_3 3 rfl rfl)
theorem dX0_holdsAgainst_76 : decode cX0_holdsAgainst 76 = .ok (.getfield 173, 3) := dk_180 0 173 (dk_at dksX0_holdsAgainst_3 4 rfl rfl)
theorem dX0_holdsAgainst_79 : decode cX0_holdsAgainst 79 = .ok (.invokevirtual 143, 3) := dk_182 0 143 (dk_at dksX0_holdsAgainst_3 7 rfl rfl)
theorem dX0_holdsAgainst_82 : decode cX0_holdsAgainst 82 = .ok (.aload_n 0, 1) := dk_42 (dk_at dksX0_holdsAgainst_3 10 rfl rfl)
theorem dX0_holdsAgainst_83 : decode cX0_holdsAgainst 83 = .ok (.getfield 176, 3) := dk_180 0 176 (dk_at dksX0_holdsAgainst_3 11 rfl rfl)
theorem dX0_holdsAgainst_86 : decode cX0_holdsAgainst 86 = .ok (.aload_n 0, 1) := dk_42 (dk_at dksX0_holdsAgainst_3 14 rfl rfl)
theorem dX0_holdsAgainst_87 : decode cX0_holdsAgainst 87 = .ok (.getfield 140, 3) := dk_180 0 140 (dk_at dksX0_holdsAgainst_3 15 rfl rfl)
theorem dX0_holdsAgainst_90 : decode cX0_holdsAgainst 90 = .ok (.aload_n 0, 1) := dk_42 (dk_at dksX0_holdsAgainst_3 18 rfl rfl)
theorem dX0_holdsAgainst_91 : decode cX0_holdsAgainst 91 = .ok (.getfield 173, 3) := dk_180 0 173 (dk_at dksX0_holdsAgainst_3 19 rfl rfl)
theorem dX0_holdsAgainst_94 : decode cX0_holdsAgainst 94 = .ok (.invokestatic 180, 3) := dk_184 0 180 (dk_at dksX0_holdsAgainst_4 0 rfl rfl)
theorem dX0_holdsAgainst_97 : decode cX0_holdsAgainst 97 = .ok (.ifCond .eq 12, 3) := dk_153 0 12 (dk_at dksX0_holdsAgainst_4 3 rfl rfl)
theorem dX0_holdsAgainst_100 : decode cX0_holdsAgainst 100 = .ok (.aload_n 0, 1) := dk_42 (dk_at dksX0_holdsAgainst_4 6 rfl rfl)
theorem dX0_holdsAgainst_101 : decode cX0_holdsAgainst 101 = .ok (.aload_n 1, 1) := dk_43 (dk_at dksX0_holdsAgainst_4 7 rfl rfl)
theorem dX0_holdsAgainst_102 : decode cX0_holdsAgainst 102 = .ok (.iload_n 2, 1) := dk_28 (dk_at dksX0_holdsAgainst_4 8 rfl rfl)
theorem dX0_holdsAgainst_103 : decode cX0_holdsAgainst 103 = .ok (.iload_n 3, 1) := dk_29 (dk_at dksX0_holdsAgainst_4 9 rfl rfl)
theorem dX0_holdsAgainst_104 : decode cX0_holdsAgainst 104 = .ok (.iload 4, 2) := dk_21 4 (dk_at dksX0_holdsAgainst_4 10 rfl rfl)
theorem dX0_holdsAgainst_106 : decode cX0_holdsAgainst 106 = .ok (.invokevirtual 184, 3) := dk_182 0 184 (dk_at dksX0_holdsAgainst_4 12 rfl rfl)
theorem dX0_holdsAgainst_109 : decode cX0_holdsAgainst 109 = .ok (.iinc 4 1, 3) := dk_132 4 1 (dk_at dksX0_holdsAgainst_4 15 rfl rfl)
theorem dX0_holdsAgainst_112 : decode cX0_holdsAgainst 112 = .ok (.goto (-54), 3) := dk_167 255 202 (dk_at dksX0_holdsAgainst_4 18 rfl rfl)
theorem dX0_holdsAgainst_115 : decode cX0_holdsAgainst 115 = .ok (.iinc 3 1, 3) := dk_132 3 1 (dk_at dksX0_holdsAgainst_4 21 rfl rfl)
theorem dX0_holdsAgainst_118 : decode cX0_holdsAgainst 118 = .ok (.goto (-75), 3) := dk_167 255 181 (dk_at dksX0_holdsAgainst_5 0 rfl rfl)
theorem dX0_holdsAgainst_121 : decode cX0_holdsAgainst 121 = .ok (.iinc 2 1, 3) := dk_132 2 1 (dk_at dksX0_holdsAgainst_5 3 rfl rfl)
theorem dX0_holdsAgainst_124 : decode cX0_holdsAgainst 124 = .ok (.goto (-95), 3) := dk_167 255 161 (dk_at dksX0_holdsAgainst_5 6 rfl rfl)
theorem dX0_holdsAgainst_127 : decode cX0_holdsAgainst 127 = .ok (.return_, 1) := dk_177 (dk_at dksX0_holdsAgainst_5 9 rfl rfl)
abbrev cX0_areAll : ByteArray := prog_1_method_26_code
def yX0_areAll : MethodName := ⟨RX0, "areAll", "(LStarTracker$Fit;[I[I)Z"⟩
def dkwX0_areAll_2 : List UInt8 := [167, 0, 4, 3, 172]
abbrev dktX0_areAll_2 : List UInt8 := dkwX0_areAll_2 ++ []
def dkwX0_areAll_1 : List UInt8 := [185, 0, 151, 3, 0, 153, 0, 22, 42, 43, 5, 46, 44, 5, 46, 185, 0, 151, 3, 0, 153, 0, 7, 4]
abbrev dktX0_areAll_1 : List UInt8 := dkwX0_areAll_1 ++ dktX0_areAll_2
def dkwX0_areAll_0 : List UInt8 := [42, 43, 3, 46, 44, 3, 46, 185, 0, 151, 3, 0, 153, 0, 37, 42, 43, 4, 46, 44, 4, 46]
abbrev dktX0_areAll_0 : List UInt8 := dkwX0_areAll_0 ++ dktX0_areAll_1
theorem dksX0_areAll_0 : cX0_areAll.data.toList.drop 0 = dktX0_areAll_0 := by decide +kernel
theorem dksX0_areAll_1 : cX0_areAll.data.toList.drop 22 = dktX0_areAll_1 := dk_seg dksX0_areAll_0 22 rfl rfl
theorem dksX0_areAll_2 : cX0_areAll.data.toList.drop 46 = dktX0_areAll_2 := dk_seg dksX0_areAll_1 24 rfl rfl
theorem dX0_areAll_0 : decode cX0_areAll 0 = .ok (.aload_n 0, 1) := dk_42 (dk_at dksX0_areAll_0 0 rfl rfl)
theorem dX0_areAll_1 : decode cX0_areAll 1 = .ok (.aload_n 1, 1) := dk_43 (dk_at dksX0_areAll_0 1 rfl rfl)
theorem dX0_areAll_2 : decode cX0_areAll 2 = .ok (.iconst 0, 1) := dk_3 (dk_at dksX0_areAll_0 2 rfl rfl)
theorem dX0_areAll_3 : decode cX0_areAll 3 = .ok (.iaload, 1) := dk_46 (dk_at dksX0_areAll_0 3 rfl rfl)
theorem dX0_areAll_4 : decode cX0_areAll 4 = .ok (.aload_n 2, 1) := dk_44 (dk_at dksX0_areAll_0 4 rfl rfl)
theorem dX0_areAll_5 : decode cX0_areAll 5 = .ok (.iconst 0, 1) := dk_3 (dk_at dksX0_areAll_0 5 rfl rfl)
theorem dX0_areAll_6 : decode cX0_areAll 6 = .ok (.iaload, 1) := dk_46 (dk_at dksX0_areAll_0 6 rfl rfl)
theorem dX0_areAll_7 : decode cX0_areAll 7 = .ok (.invokeinterface 151 3, 5) := by decide +kernel
theorem dX0_areAll_12 : decode cX0_areAll 12 = .ok (.ifCond .eq 37, 3) := dk_153 0 37 (dk_at dksX0_areAll_0 12 rfl rfl)
theorem dX0_areAll_15 : decode cX0_areAll 15 = .ok (.aload_n 0, 1) := dk_42 (dk_at dksX0_areAll_0 15 rfl rfl)
theorem dX0_areAll_16 : decode cX0_areAll 16 = .ok (.aload_n 1, 1) := dk_43 (dk_at dksX0_areAll_0 16 rfl rfl)
theorem dX0_areAll_17 : decode cX0_areAll 17 = .ok (.iconst 1, 1) := dk_4 (dk_at dksX0_areAll_0 17 rfl rfl)
theorem dX0_areAll_18 : decode cX0_areAll 18 = .ok (.iaload, 1) := dk_46 (dk_at dksX0_areAll_0 18 rfl rfl)
theorem dX0_areAll_19 : decode cX0_areAll 19 = .ok (.aload_n 2, 1) := dk_44 (dk_at dksX0_areAll_0 19 rfl rfl)
theorem dX0_areAll_20 : decode cX0_areAll 20 = .ok (.iconst 1, 1) := dk_4 (dk_at dksX0_areAll_0 20 rfl rfl)
theorem dX0_areAll_21 : decode cX0_areAll 21 = .ok (.iaload, 1) := dk_46 (dk_at dksX0_areAll_0 21 rfl rfl)
theorem dX0_areAll_22 : decode cX0_areAll 22 = .ok (.invokeinterface 151 3, 5) := by decide +kernel
theorem dX0_areAll_27 : decode cX0_areAll 27 = .ok (.ifCond .eq 22, 3) := dk_153 0 22 (dk_at dksX0_areAll_1 5 rfl rfl)
theorem dX0_areAll_30 : decode cX0_areAll 30 = .ok (.aload_n 0, 1) := dk_42 (dk_at dksX0_areAll_1 8 rfl rfl)
theorem dX0_areAll_31 : decode cX0_areAll 31 = .ok (.aload_n 1, 1) := dk_43 (dk_at dksX0_areAll_1 9 rfl rfl)
theorem dX0_areAll_32 : decode cX0_areAll 32 = .ok (.iconst 2, 1) := dk_5 (dk_at dksX0_areAll_1 10 rfl rfl)
theorem dX0_areAll_33 : decode cX0_areAll 33 = .ok (.iaload, 1) := dk_46 (dk_at dksX0_areAll_1 11 rfl rfl)
theorem dX0_areAll_34 : decode cX0_areAll 34 = .ok (.aload_n 2, 1) := dk_44 (dk_at dksX0_areAll_1 12 rfl rfl)
theorem dX0_areAll_35 : decode cX0_areAll 35 = .ok (.iconst 2, 1) := dk_5 (dk_at dksX0_areAll_1 13 rfl rfl)
theorem dX0_areAll_36 : decode cX0_areAll 36 = .ok (.iaload, 1) := dk_46 (dk_at dksX0_areAll_1 14 rfl rfl)
theorem dX0_areAll_37 : decode cX0_areAll 37 = .ok (.invokeinterface 151 3, 5) := by decide +kernel
theorem dX0_areAll_42 : decode cX0_areAll 42 = .ok (.ifCond .eq 7, 3) := dk_153 0 7 (dk_at dksX0_areAll_1 20 rfl rfl)
theorem dX0_areAll_45 : decode cX0_areAll 45 = .ok (.iconst 1, 1) := dk_4 (dk_at dksX0_areAll_1 23 rfl rfl)
theorem dX0_areAll_46 : decode cX0_areAll 46 = .ok (.goto 4, 3) := dk_167 0 4 (dk_at dksX0_areAll_2 0 rfl rfl)
theorem dX0_areAll_49 : decode cX0_areAll 49 = .ok (.iconst 0, 1) := dk_3 (dk_at dksX0_areAll_2 3 rfl rfl)
theorem dX0_areAll_50 : decode cX0_areAll 50 = .ok (.ireturn, 1) := dk_172 (dk_at dksX0_areAll_2 4 rfl rfl)
abbrev cX0_looksAt : ByteArray := prog_1_method_28_code
def yX0_looksAt : MethodName := ⟨RX0, "looksAt", "(LStarTracker$Fit;III)V"⟩
def dkwX0_looksAt_3 : List UInt8 := [28, 29, 182, 0, 169, 42, 43, 42, 180, 0, 166, 21, 4, 29, 28, 182, 0, 169, 177]
abbrev dktX0_looksAt_3 : List UInt8 := dkwX0_looksAt_3 ++ []
def dkwX0_looksAt_2 : List UInt8 := [182, 0, 169, 42, 43, 42, 180, 0, 166, 29, 21, 4, 28, 182, 0, 169, 42, 43, 42, 180, 0, 166, 21, 4]
abbrev dktX0_looksAt_2 : List UInt8 := dkwX0_looksAt_2 ++ dktX0_looksAt_3
def dkwX0_looksAt_1 : List UInt8 := [43, 42, 180, 0, 166, 28, 21, 4, 29, 182, 0, 169, 42, 43, 42, 180, 0, 166, 29, 28, 21, 4]
abbrev dktX0_looksAt_1 : List UInt8 := dkwX0_looksAt_1 ++ dktX0_looksAt_2
def dkwX0_looksAt_0 : List UInt8 := [42, 89, 180, 0, 163, 4, 96, 181, 0, 163, 42, 43, 42, 180, 0, 166, 28, 29, 21, 4, 182, 0, 169, 42]
abbrev dktX0_looksAt_0 : List UInt8 := dkwX0_looksAt_0 ++ dktX0_looksAt_1
theorem dksX0_looksAt_0 : cX0_looksAt.data.toList.drop 0 = dktX0_looksAt_0 := by decide +kernel
theorem dksX0_looksAt_1 : cX0_looksAt.data.toList.drop 24 = dktX0_looksAt_1 := dk_seg dksX0_looksAt_0 24 rfl rfl
theorem dksX0_looksAt_2 : cX0_looksAt.data.toList.drop 46 = dktX0_looksAt_2 := dk_seg dksX0_looksAt_1 22 rfl rfl
theorem dksX0_looksAt_3 : cX0_looksAt.data.toList.drop 70 = dktX0_looksAt_3 := dk_seg dksX0_looksAt_2 24 rfl rfl
theorem dX0_looksAt_0 : decode cX0_looksAt 0 = .ok (.aload_n 0, 1) := dk_42 (dk_at dksX0_looksAt_0 0 rfl rfl)
theorem dX0_looksAt_1 : decode cX0_looksAt 1 = .ok (.dup, 1) := dk_89 (dk_at dksX0_looksAt_0 1 rfl rfl)
theorem dX0_looksAt_2 : decode cX0_looksAt 2 = .ok (.getfield 163, 3) := dk_180 0 163 (dk_at dksX0_looksAt_0 2 rfl rfl)
theorem dX0_looksAt_5 : decode cX0_looksAt 5 = .ok (.iconst 1, 1) := dk_4 (dk_at dksX0_looksAt_0 5 rfl rfl)
theorem dX0_looksAt_6 : decode cX0_looksAt 6 = .ok (.iadd, 1) := dk_96 (dk_at dksX0_looksAt_0 6 rfl rfl)
theorem dX0_looksAt_7 : decode cX0_looksAt 7 = .ok (.putfield 163, 3) := dk_181 0 163 (dk_at dksX0_looksAt_0 7 rfl rfl)
theorem dX0_looksAt_10 : decode cX0_looksAt 10 = .ok (.aload_n 0, 1) := dk_42 (dk_at dksX0_looksAt_0 10 rfl rfl)
theorem dX0_looksAt_11 : decode cX0_looksAt 11 = .ok (.aload_n 1, 1) := dk_43 (dk_at dksX0_looksAt_0 11 rfl rfl)
theorem dX0_looksAt_12 : decode cX0_looksAt 12 = .ok (.aload_n 0, 1) := dk_42 (dk_at dksX0_looksAt_0 12 rfl rfl)
theorem dX0_looksAt_13 : decode cX0_looksAt 13 = .ok (.getfield 166, 3) := dk_180 0 166 (dk_at dksX0_looksAt_0 13 rfl rfl)
theorem dX0_looksAt_16 : decode cX0_looksAt 16 = .ok (.iload_n 2, 1) := dk_28 (dk_at dksX0_looksAt_0 16 rfl rfl)
theorem dX0_looksAt_17 : decode cX0_looksAt 17 = .ok (.iload_n 3, 1) := dk_29 (dk_at dksX0_looksAt_0 17 rfl rfl)
theorem dX0_looksAt_18 : decode cX0_looksAt 18 = .ok (.iload 4, 2) := dk_21 4 (dk_at dksX0_looksAt_0 18 rfl rfl)
theorem dX0_looksAt_20 : decode cX0_looksAt 20 = .ok (.invokevirtual 169, 3) := dk_182 0 169 (dk_at dksX0_looksAt_0 20 rfl rfl)
theorem dX0_looksAt_23 : decode cX0_looksAt 23 = .ok (.aload_n 0, 1) := dk_42 (dk_at dksX0_looksAt_0 23 rfl rfl)
theorem dX0_looksAt_24 : decode cX0_looksAt 24 = .ok (.aload_n 1, 1) := dk_43 (dk_at dksX0_looksAt_1 0 rfl rfl)
theorem dX0_looksAt_25 : decode cX0_looksAt 25 = .ok (.aload_n 0, 1) := dk_42 (dk_at dksX0_looksAt_1 1 rfl rfl)
theorem dX0_looksAt_26 : decode cX0_looksAt 26 = .ok (.getfield 166, 3) := dk_180 0 166 (dk_at dksX0_looksAt_1 2 rfl rfl)
theorem dX0_looksAt_29 : decode cX0_looksAt 29 = .ok (.iload_n 2, 1) := dk_28 (dk_at dksX0_looksAt_1 5 rfl rfl)
theorem dX0_looksAt_30 : decode cX0_looksAt 30 = .ok (.iload 4, 2) := dk_21 4 (dk_at dksX0_looksAt_1 6 rfl rfl)
theorem dX0_looksAt_32 : decode cX0_looksAt 32 = .ok (.iload_n 3, 1) := dk_29 (dk_at dksX0_looksAt_1 8 rfl rfl)
theorem dX0_looksAt_33 : decode cX0_looksAt 33 = .ok (.invokevirtual 169, 3) := dk_182 0 169 (dk_at dksX0_looksAt_1 9 rfl rfl)
theorem dX0_looksAt_36 : decode cX0_looksAt 36 = .ok (.aload_n 0, 1) := dk_42 (dk_at dksX0_looksAt_1 12 rfl rfl)
theorem dX0_looksAt_37 : decode cX0_looksAt 37 = .ok (.aload_n 1, 1) := dk_43 (dk_at dksX0_looksAt_1 13 rfl rfl)
theorem dX0_looksAt_38 : decode cX0_looksAt 38 = .ok (.aload_n 0, 1) := dk_42 (dk_at dksX0_looksAt_1 14 rfl rfl)
theorem dX0_looksAt_39 : decode cX0_looksAt 39 = .ok (.getfield 166, 3) := dk_180 0 166 (dk_at dksX0_looksAt_1 15 rfl rfl)
theorem dX0_looksAt_42 : decode cX0_looksAt 42 = .ok (.iload_n 3, 1) := dk_29 (dk_at dksX0_looksAt_1 18 rfl rfl)
theorem dX0_looksAt_43 : decode cX0_looksAt 43 = .ok (.iload_n 2, 1) := dk_28 (dk_at dksX0_looksAt_1 19 rfl rfl)
theorem dX0_looksAt_44 : decode cX0_looksAt 44 = .ok (.iload 4, 2) := dk_21 4 (dk_at dksX0_looksAt_1 20 rfl rfl)
theorem dX0_looksAt_46 : decode cX0_looksAt 46 = .ok (.invokevirtual 169, 3) := dk_182 0 169 (dk_at dksX0_looksAt_2 0 rfl rfl)
theorem dX0_looksAt_49 : decode cX0_looksAt 49 = .ok (.aload_n 0, 1) := dk_42 (dk_at dksX0_looksAt_2 3 rfl rfl)
theorem dX0_looksAt_50 : decode cX0_looksAt 50 = .ok (.aload_n 1, 1) := dk_43 (dk_at dksX0_looksAt_2 4 rfl rfl)
theorem dX0_looksAt_51 : decode cX0_looksAt 51 = .ok (.aload_n 0, 1) := dk_42 (dk_at dksX0_looksAt_2 5 rfl rfl)
theorem dX0_looksAt_52 : decode cX0_looksAt 52 = .ok (.getfield 166, 3) := dk_180 0 166 (dk_at dksX0_looksAt_2 6 rfl rfl)
theorem dX0_looksAt_55 : decode cX0_looksAt 55 = .ok (.iload_n 3, 1) := dk_29 (dk_at dksX0_looksAt_2 9 rfl rfl)
theorem dX0_looksAt_56 : decode cX0_looksAt 56 = .ok (.iload 4, 2) := dk_21 4 (dk_at dksX0_looksAt_2 10 rfl rfl)
theorem dX0_looksAt_58 : decode cX0_looksAt 58 = .ok (.iload_n 2, 1) := dk_28 (dk_at dksX0_looksAt_2 12 rfl rfl)
theorem dX0_looksAt_59 : decode cX0_looksAt 59 = .ok (.invokevirtual 169, 3) := dk_182 0 169 (dk_at dksX0_looksAt_2 13 rfl rfl)
theorem dX0_looksAt_62 : decode cX0_looksAt 62 = .ok (.aload_n 0, 1) := dk_42 (dk_at dksX0_looksAt_2 16 rfl rfl)
theorem dX0_looksAt_63 : decode cX0_looksAt 63 = .ok (.aload_n 1, 1) := dk_43 (dk_at dksX0_looksAt_2 17 rfl rfl)
theorem dX0_looksAt_64 : decode cX0_looksAt 64 = .ok (.aload_n 0, 1) := dk_42 (dk_at dksX0_looksAt_2 18 rfl rfl)
theorem dX0_looksAt_65 : decode cX0_looksAt 65 = .ok (.getfield 166, 3) := dk_180 0 166 (dk_at dksX0_looksAt_2 19 rfl rfl)
theorem dX0_looksAt_68 : decode cX0_looksAt 68 = .ok (.iload 4, 2) := dk_21 4 (dk_at dksX0_looksAt_2 22 rfl rfl)
theorem dX0_looksAt_70 : decode cX0_looksAt 70 = .ok (.iload_n 2, 1) := dk_28 (dk_at dksX0_looksAt_3 0 rfl rfl)
theorem dX0_looksAt_71 : decode cX0_looksAt 71 = .ok (.iload_n 3, 1) := dk_29 (dk_at dksX0_looksAt_3 1 rfl rfl)
theorem dX0_looksAt_72 : decode cX0_looksAt 72 = .ok (.invokevirtual 169, 3) := dk_182 0 169 (dk_at dksX0_looksAt_3 2 rfl rfl)
theorem dX0_looksAt_75 : decode cX0_looksAt 75 = .ok (.aload_n 0, 1) := dk_42 (dk_at dksX0_looksAt_3 5 rfl rfl)
theorem dX0_looksAt_76 : decode cX0_looksAt 76 = .ok (.aload_n 1, 1) := dk_43 (dk_at dksX0_looksAt_3 6 rfl rfl)
theorem dX0_looksAt_77 : decode cX0_looksAt 77 = .ok (.aload_n 0, 1) := dk_42 (dk_at dksX0_looksAt_3 7 rfl rfl)
theorem dX0_looksAt_78 : decode cX0_looksAt 78 = .ok (.getfield 166, 3) := dk_180 0 166 (dk_at dksX0_looksAt_3 8 rfl rfl)
theorem dX0_looksAt_81 : decode cX0_looksAt 81 = .ok (.iload 4, 2) := dk_21 4 (dk_at dksX0_looksAt_3 11 rfl rfl)
theorem dX0_looksAt_83 : decode cX0_looksAt 83 = .ok (.iload_n 3, 1) := dk_29 (dk_at dksX0_looksAt_3 13 rfl rfl)
theorem dX0_looksAt_84 : decode cX0_looksAt 84 = .ok (.iload_n 2, 1) := dk_28 (dk_at dksX0_looksAt_3 14 rfl rfl)
theorem dX0_looksAt_85 : decode cX0_looksAt 85 = .ok (.invokevirtual 169, 3) := dk_182 0 169 (dk_at dksX0_looksAt_3 15 rfl rfl)
theorem dX0_looksAt_88 : decode cX0_looksAt 88 = .ok (.return_, 1) := dk_177 (dk_at dksX0_looksAt_3 18 rfl rfl)
abbrev cX0_tries : ByteArray := prog_1_method_27_code
def yX0_tries : MethodName := ⟨RX0, "tries", "(LStarTracker$Fit;[IIII)V"⟩
def dkwX0_tries_6 : List UInt8 := [92, 46, 4, 96, 79, 42, 89, 180, 0, 160, 4, 96, 181, 0, 160, 177]
abbrev dktX0_tries_6 : List UInt8 := dkwX0_tries_6 ++ []
def dkwX0_tries_5 : List UInt8 := [180, 0, 156, 44, 4, 46, 50, 21, 4, 92, 46, 4, 96, 79, 42, 180, 0, 156, 44, 5, 46, 50, 21, 5]
abbrev dktX0_tries_5 : List UInt8 := dkwX0_tries_5 ++ dktX0_tries_6
def dkwX0_tries_4 : List UInt8 := [54, 6, 21, 6, 153, 0, 57, 42, 180, 0, 156, 44, 3, 46, 50, 29, 92, 46, 4, 96, 79, 42]
abbrev dktX0_tries_4 : List UInt8 := dkwX0_tries_4 ++ dktX0_tries_5
def dkwX0_tries_3 : List UInt8 := [182, 0, 137, 42, 3, 29, 21, 5, 182, 0, 137, 185, 0, 151, 3, 0, 153, 0, 7, 4, 167, 0, 4, 3]
abbrev dktX0_tries_3 : List UInt8 := dkwX0_tries_3 ++ dktX0_tries_4
def dkwX0_tries_2 : List UInt8 := [21, 5, 182, 0, 137, 185, 0, 151, 3, 0, 153, 0, 35, 43, 42, 4, 44, 3, 46, 44, 5, 46]
abbrev dktX0_tries_2 : List UInt8 := dkwX0_tries_2 ++ dktX0_tries_3
def dkwX0_tries_1 : List UInt8 := [185, 0, 151, 3, 0, 153, 0, 64, 43, 42, 4, 44, 4, 46, 44, 5, 46, 182, 0, 137, 42, 3, 21, 4]
abbrev dktX0_tries_1 : List UInt8 := dkwX0_tries_1 ++ dktX0_tries_2
def dkwX0_tries_0 : List UInt8 := [43, 42, 4, 44, 3, 46, 44, 4, 46, 182, 0, 137, 42, 3, 29, 21, 4, 182, 0, 137]
abbrev dktX0_tries_0 : List UInt8 := dkwX0_tries_0 ++ dktX0_tries_1
theorem dksX0_tries_0 : cX0_tries.data.toList.drop 0 = dktX0_tries_0 := by decide +kernel
theorem dksX0_tries_1 : cX0_tries.data.toList.drop 20 = dktX0_tries_1 := dk_seg dksX0_tries_0 20 rfl rfl
theorem dksX0_tries_2 : cX0_tries.data.toList.drop 44 = dktX0_tries_2 := dk_seg dksX0_tries_1 24 rfl rfl
theorem dksX0_tries_3 : cX0_tries.data.toList.drop 66 = dktX0_tries_3 := dk_seg dksX0_tries_2 22 rfl rfl
theorem dksX0_tries_4 : cX0_tries.data.toList.drop 90 = dktX0_tries_4 := dk_seg dksX0_tries_3 24 rfl rfl
theorem dksX0_tries_5 : cX0_tries.data.toList.drop 112 = dktX0_tries_5 := dk_seg dksX0_tries_4 22 rfl rfl
theorem dksX0_tries_6 : cX0_tries.data.toList.drop 136 = dktX0_tries_6 := dk_seg dksX0_tries_5 24 rfl rfl
theorem dX0_tries_0 : decode cX0_tries 0 = .ok (.aload_n 1, 1) := dk_43 (dk_at dksX0_tries_0 0 rfl rfl)
theorem dX0_tries_1 : decode cX0_tries 1 = .ok (.aload_n 0, 1) := dk_42 (dk_at dksX0_tries_0 1 rfl rfl)
theorem dX0_tries_2 : decode cX0_tries 2 = .ok (.iconst 1, 1) := dk_4 (dk_at dksX0_tries_0 2 rfl rfl)
theorem dX0_tries_3 : decode cX0_tries 3 = .ok (.aload_n 2, 1) := dk_44 (dk_at dksX0_tries_0 3 rfl rfl)
theorem dX0_tries_4 : decode cX0_tries 4 = .ok (.iconst 0, 1) := dk_3 (dk_at dksX0_tries_0 4 rfl rfl)
theorem dX0_tries_5 : decode cX0_tries 5 = .ok (.iaload, 1) := dk_46 (dk_at dksX0_tries_0 5 rfl rfl)
theorem dX0_tries_6 : decode cX0_tries 6 = .ok (.aload_n 2, 1) := dk_44 (dk_at dksX0_tries_0 6 rfl rfl)
theorem dX0_tries_7 : decode cX0_tries 7 = .ok (.iconst 1, 1) := dk_4 (dk_at dksX0_tries_0 7 rfl rfl)
theorem dX0_tries_8 : decode cX0_tries 8 = .ok (.iaload, 1) := dk_46 (dk_at dksX0_tries_0 8 rfl rfl)
theorem dX0_tries_9 : decode cX0_tries 9 = .ok (.invokevirtual 137, 3) := dk_182 0 137 (dk_at dksX0_tries_0 9 rfl rfl)
theorem dX0_tries_12 : decode cX0_tries 12 = .ok (.aload_n 0, 1) := dk_42 (dk_at dksX0_tries_0 12 rfl rfl)
theorem dX0_tries_13 : decode cX0_tries 13 = .ok (.iconst 0, 1) := dk_3 (dk_at dksX0_tries_0 13 rfl rfl)
theorem dX0_tries_14 : decode cX0_tries 14 = .ok (.iload_n 3, 1) := dk_29 (dk_at dksX0_tries_0 14 rfl rfl)
theorem dX0_tries_15 : decode cX0_tries 15 = .ok (.iload 4, 2) := dk_21 4 (dk_at dksX0_tries_0 15 rfl rfl)
theorem dX0_tries_17 : decode cX0_tries 17 = .ok (.invokevirtual 137, 3) := dk_182 0 137 (dk_at dksX0_tries_0 17 rfl rfl)
theorem dX0_tries_20 : decode cX0_tries 20 = .ok (.invokeinterface 151 3, 5) := by decide +kernel
theorem dX0_tries_25 : decode cX0_tries 25 = .ok (.ifCond .eq 64, 3) := dk_153 0 64 (dk_at dksX0_tries_1 5 rfl rfl)
theorem dX0_tries_28 : decode cX0_tries 28 = .ok (.aload_n 1, 1) := dk_43 (dk_at dksX0_tries_1 8 rfl rfl)
theorem dX0_tries_29 : decode cX0_tries 29 = .ok (.aload_n 0, 1) := dk_42 (dk_at dksX0_tries_1 9 rfl rfl)
theorem dX0_tries_30 : decode cX0_tries 30 = .ok (.iconst 1, 1) := dk_4 (dk_at dksX0_tries_1 10 rfl rfl)
theorem dX0_tries_31 : decode cX0_tries 31 = .ok (.aload_n 2, 1) := dk_44 (dk_at dksX0_tries_1 11 rfl rfl)
theorem dX0_tries_32 : decode cX0_tries 32 = .ok (.iconst 1, 1) := dk_4 (dk_at dksX0_tries_1 12 rfl rfl)
theorem dX0_tries_33 : decode cX0_tries 33 = .ok (.iaload, 1) := dk_46 (dk_at dksX0_tries_1 13 rfl rfl)
theorem dX0_tries_34 : decode cX0_tries 34 = .ok (.aload_n 2, 1) := dk_44 (dk_at dksX0_tries_1 14 rfl rfl)
theorem dX0_tries_35 : decode cX0_tries 35 = .ok (.iconst 2, 1) := dk_5 (dk_at dksX0_tries_1 15 rfl rfl)
theorem dX0_tries_36 : decode cX0_tries 36 = .ok (.iaload, 1) := dk_46 (dk_at dksX0_tries_1 16 rfl rfl)
theorem dX0_tries_37 : decode cX0_tries 37 = .ok (.invokevirtual 137, 3) := dk_182 0 137 (dk_at dksX0_tries_1 17 rfl rfl)
theorem dX0_tries_40 : decode cX0_tries 40 = .ok (.aload_n 0, 1) := dk_42 (dk_at dksX0_tries_1 20 rfl rfl)
theorem dX0_tries_41 : decode cX0_tries 41 = .ok (.iconst 0, 1) := dk_3 (dk_at dksX0_tries_1 21 rfl rfl)
theorem dX0_tries_42 : decode cX0_tries 42 = .ok (.iload 4, 2) := dk_21 4 (dk_at dksX0_tries_1 22 rfl rfl)
theorem dX0_tries_44 : decode cX0_tries 44 = .ok (.iload 5, 2) := dk_21 5 (dk_at dksX0_tries_2 0 rfl rfl)
theorem dX0_tries_46 : decode cX0_tries 46 = .ok (.invokevirtual 137, 3) := dk_182 0 137 (dk_at dksX0_tries_2 2 rfl rfl)
theorem dX0_tries_49 : decode cX0_tries 49 = .ok (.invokeinterface 151 3, 5) := by decide +kernel
theorem dX0_tries_54 : decode cX0_tries 54 = .ok (.ifCond .eq 35, 3) := dk_153 0 35 (dk_at dksX0_tries_2 10 rfl rfl)
theorem dX0_tries_57 : decode cX0_tries 57 = .ok (.aload_n 1, 1) := dk_43 (dk_at dksX0_tries_2 13 rfl rfl)
theorem dX0_tries_58 : decode cX0_tries 58 = .ok (.aload_n 0, 1) := dk_42 (dk_at dksX0_tries_2 14 rfl rfl)
theorem dX0_tries_59 : decode cX0_tries 59 = .ok (.iconst 1, 1) := dk_4 (dk_at dksX0_tries_2 15 rfl rfl)
theorem dX0_tries_60 : decode cX0_tries 60 = .ok (.aload_n 2, 1) := dk_44 (dk_at dksX0_tries_2 16 rfl rfl)
theorem dX0_tries_61 : decode cX0_tries 61 = .ok (.iconst 0, 1) := dk_3 (dk_at dksX0_tries_2 17 rfl rfl)
theorem dX0_tries_62 : decode cX0_tries 62 = .ok (.iaload, 1) := dk_46 (dk_at dksX0_tries_2 18 rfl rfl)
theorem dX0_tries_63 : decode cX0_tries 63 = .ok (.aload_n 2, 1) := dk_44 (dk_at dksX0_tries_2 19 rfl rfl)
theorem dX0_tries_64 : decode cX0_tries 64 = .ok (.iconst 2, 1) := dk_5 (dk_at dksX0_tries_2 20 rfl rfl)
theorem dX0_tries_65 : decode cX0_tries 65 = .ok (.iaload, 1) := dk_46 (dk_at dksX0_tries_2 21 rfl rfl)
theorem dX0_tries_66 : decode cX0_tries 66 = .ok (.invokevirtual 137, 3) := dk_182 0 137 (dk_at dksX0_tries_3 0 rfl rfl)
theorem dX0_tries_69 : decode cX0_tries 69 = .ok (.aload_n 0, 1) := dk_42 (dk_at dksX0_tries_3 3 rfl rfl)
theorem dX0_tries_70 : decode cX0_tries 70 = .ok (.iconst 0, 1) := dk_3 (dk_at dksX0_tries_3 4 rfl rfl)
theorem dX0_tries_71 : decode cX0_tries 71 = .ok (.iload_n 3, 1) := dk_29 (dk_at dksX0_tries_3 5 rfl rfl)
theorem dX0_tries_72 : decode cX0_tries 72 = .ok (.iload 5, 2) := dk_21 5 (dk_at dksX0_tries_3 6 rfl rfl)
theorem dX0_tries_74 : decode cX0_tries 74 = .ok (.invokevirtual 137, 3) := dk_182 0 137 (dk_at dksX0_tries_3 8 rfl rfl)
theorem dX0_tries_77 : decode cX0_tries 77 = .ok (.invokeinterface 151 3, 5) := by decide +kernel
theorem dX0_tries_82 : decode cX0_tries 82 = .ok (.ifCond .eq 7, 3) := dk_153 0 7 (dk_at dksX0_tries_3 16 rfl rfl)
theorem dX0_tries_85 : decode cX0_tries 85 = .ok (.iconst 1, 1) := dk_4 (dk_at dksX0_tries_3 19 rfl rfl)
theorem dX0_tries_86 : decode cX0_tries 86 = .ok (.goto 4, 3) := dk_167 0 4 (dk_at dksX0_tries_3 20 rfl rfl)
theorem dX0_tries_89 : decode cX0_tries 89 = .ok (.iconst 0, 1) := dk_3 (dk_at dksX0_tries_3 23 rfl rfl)
theorem dX0_tries_90 : decode cX0_tries 90 = .ok (.istore 6, 2) := dk_54 6 (dk_at dksX0_tries_4 0 rfl rfl)
theorem dX0_tries_92 : decode cX0_tries 92 = .ok (.iload 6, 2) := dk_21 6 (dk_at dksX0_tries_4 2 rfl rfl)
theorem dX0_tries_94 : decode cX0_tries 94 = .ok (.ifCond .eq 57, 3) := dk_153 0 57 (dk_at dksX0_tries_4 4 rfl rfl)
theorem dX0_tries_97 : decode cX0_tries 97 = .ok (.aload_n 0, 1) := dk_42 (dk_at dksX0_tries_4 7 rfl rfl)
theorem dX0_tries_98 : decode cX0_tries 98 = .ok (.getfield 156, 3) := dk_180 0 156 (dk_at dksX0_tries_4 8 rfl rfl)
theorem dX0_tries_101 : decode cX0_tries 101 = .ok (.aload_n 2, 1) := dk_44 (dk_at dksX0_tries_4 11 rfl rfl)
theorem dX0_tries_102 : decode cX0_tries 102 = .ok (.iconst 0, 1) := dk_3 (dk_at dksX0_tries_4 12 rfl rfl)
theorem dX0_tries_103 : decode cX0_tries 103 = .ok (.iaload, 1) := dk_46 (dk_at dksX0_tries_4 13 rfl rfl)
theorem dX0_tries_104 : decode cX0_tries 104 = .ok (.aaload, 1) := dk_50 (dk_at dksX0_tries_4 14 rfl rfl)
theorem dX0_tries_105 : decode cX0_tries 105 = .ok (.iload_n 3, 1) := dk_29 (dk_at dksX0_tries_4 15 rfl rfl)
theorem dX0_tries_106 : decode cX0_tries 106 = .ok (.dup2, 1) := dk_92 (dk_at dksX0_tries_4 16 rfl rfl)
theorem dX0_tries_107 : decode cX0_tries 107 = .ok (.iaload, 1) := dk_46 (dk_at dksX0_tries_4 17 rfl rfl)
theorem dX0_tries_108 : decode cX0_tries 108 = .ok (.iconst 1, 1) := dk_4 (dk_at dksX0_tries_4 18 rfl rfl)
theorem dX0_tries_109 : decode cX0_tries 109 = .ok (.iadd, 1) := dk_96 (dk_at dksX0_tries_4 19 rfl rfl)
theorem dX0_tries_110 : decode cX0_tries 110 = .ok (.iastore, 1) := dk_79 (dk_at dksX0_tries_4 20 rfl rfl)
theorem dX0_tries_111 : decode cX0_tries 111 = .ok (.aload_n 0, 1) := dk_42 (dk_at dksX0_tries_4 21 rfl rfl)
theorem dX0_tries_112 : decode cX0_tries 112 = .ok (.getfield 156, 3) := dk_180 0 156 (dk_at dksX0_tries_5 0 rfl rfl)
theorem dX0_tries_115 : decode cX0_tries 115 = .ok (.aload_n 2, 1) := dk_44 (dk_at dksX0_tries_5 3 rfl rfl)
theorem dX0_tries_116 : decode cX0_tries 116 = .ok (.iconst 1, 1) := dk_4 (dk_at dksX0_tries_5 4 rfl rfl)
theorem dX0_tries_117 : decode cX0_tries 117 = .ok (.iaload, 1) := dk_46 (dk_at dksX0_tries_5 5 rfl rfl)
theorem dX0_tries_118 : decode cX0_tries 118 = .ok (.aaload, 1) := dk_50 (dk_at dksX0_tries_5 6 rfl rfl)
theorem dX0_tries_119 : decode cX0_tries 119 = .ok (.iload 4, 2) := dk_21 4 (dk_at dksX0_tries_5 7 rfl rfl)
theorem dX0_tries_121 : decode cX0_tries 121 = .ok (.dup2, 1) := dk_92 (dk_at dksX0_tries_5 9 rfl rfl)
theorem dX0_tries_122 : decode cX0_tries 122 = .ok (.iaload, 1) := dk_46 (dk_at dksX0_tries_5 10 rfl rfl)
theorem dX0_tries_123 : decode cX0_tries 123 = .ok (.iconst 1, 1) := dk_4 (dk_at dksX0_tries_5 11 rfl rfl)
theorem dX0_tries_124 : decode cX0_tries 124 = .ok (.iadd, 1) := dk_96 (dk_at dksX0_tries_5 12 rfl rfl)
theorem dX0_tries_125 : decode cX0_tries 125 = .ok (.iastore, 1) := dk_79 (dk_at dksX0_tries_5 13 rfl rfl)
theorem dX0_tries_126 : decode cX0_tries 126 = .ok (.aload_n 0, 1) := dk_42 (dk_at dksX0_tries_5 14 rfl rfl)
theorem dX0_tries_127 : decode cX0_tries 127 = .ok (.getfield 156, 3) := dk_180 0 156 (dk_at dksX0_tries_5 15 rfl rfl)
theorem dX0_tries_130 : decode cX0_tries 130 = .ok (.aload_n 2, 1) := dk_44 (dk_at dksX0_tries_5 18 rfl rfl)
theorem dX0_tries_131 : decode cX0_tries 131 = .ok (.iconst 2, 1) := dk_5 (dk_at dksX0_tries_5 19 rfl rfl)
theorem dX0_tries_132 : decode cX0_tries 132 = .ok (.iaload, 1) := dk_46 (dk_at dksX0_tries_5 20 rfl rfl)
theorem dX0_tries_133 : decode cX0_tries 133 = .ok (.aaload, 1) := dk_50 (dk_at dksX0_tries_5 21 rfl rfl)
theorem dX0_tries_134 : decode cX0_tries 134 = .ok (.iload 5, 2) := dk_21 5 (dk_at dksX0_tries_5 22 rfl rfl)
theorem dX0_tries_136 : decode cX0_tries 136 = .ok (.dup2, 1) := dk_92 (dk_at dksX0_tries_6 0 rfl rfl)
theorem dX0_tries_137 : decode cX0_tries 137 = .ok (.iaload, 1) := dk_46 (dk_at dksX0_tries_6 1 rfl rfl)
theorem dX0_tries_138 : decode cX0_tries 138 = .ok (.iconst 1, 1) := dk_4 (dk_at dksX0_tries_6 2 rfl rfl)
theorem dX0_tries_139 : decode cX0_tries 139 = .ok (.iadd, 1) := dk_96 (dk_at dksX0_tries_6 3 rfl rfl)
theorem dX0_tries_140 : decode cX0_tries 140 = .ok (.iastore, 1) := dk_79 (dk_at dksX0_tries_6 4 rfl rfl)
theorem dX0_tries_141 : decode cX0_tries 141 = .ok (.aload_n 0, 1) := dk_42 (dk_at dksX0_tries_6 5 rfl rfl)
theorem dX0_tries_142 : decode cX0_tries 142 = .ok (.dup, 1) := dk_89 (dk_at dksX0_tries_6 6 rfl rfl)
theorem dX0_tries_143 : decode cX0_tries 143 = .ok (.getfield 160, 3) := dk_180 0 160 (dk_at dksX0_tries_6 7 rfl rfl)
theorem dX0_tries_146 : decode cX0_tries 146 = .ok (.iconst 1, 1) := dk_4 (dk_at dksX0_tries_6 10 rfl rfl)
theorem dX0_tries_147 : decode cX0_tries 147 = .ok (.iadd, 1) := dk_96 (dk_at dksX0_tries_6 11 rfl rfl)
theorem dX0_tries_148 : decode cX0_tries 148 = .ok (.putfield 160, 3) := dk_181 0 160 (dk_at dksX0_tries_6 12 rfl rfl)
theorem dX0_tries_151 : decode cX0_tries 151 = .ok (.return_, 1) := dk_177 (dk_at dksX0_tries_6 15 rfl rfl)
abbrev cX0_takes : ByteArray := prog_1_method_33_code
def yX0_takes : MethodName := ⟨RX0, "takes", "()V"⟩
def dkwX0_takes_1 : List UInt8 := [27, 2, 79, 132, 1, 1, 167, 255, 233, 4, 60, 27, 153, 0, 11, 42, 182, 0, 213, 60, 167, 255, 247, 177]
abbrev dktX0_takes_1 : List UInt8 := dkwX0_takes_1 ++ []
def dkwX0_takes_0 : List UInt8 := [42, 3, 181, 0, 207, 3, 60, 27, 16, 8, 162, 0, 23, 42, 180, 0, 198, 27, 2, 79, 42, 180, 0, 204]
abbrev dktX0_takes_0 : List UInt8 := dkwX0_takes_0 ++ dktX0_takes_1
theorem dksX0_takes_0 : cX0_takes.data.toList.drop 0 = dktX0_takes_0 := by decide +kernel
theorem dksX0_takes_1 : cX0_takes.data.toList.drop 24 = dktX0_takes_1 := dk_seg dksX0_takes_0 24 rfl rfl
theorem dX0_takes_0 : decode cX0_takes 0 = .ok (.aload_n 0, 1) := dk_42 (dk_at dksX0_takes_0 0 rfl rfl)
theorem dX0_takes_1 : decode cX0_takes 1 = .ok (.iconst 0, 1) := dk_3 (dk_at dksX0_takes_0 1 rfl rfl)
theorem dX0_takes_2 : decode cX0_takes 2 = .ok (.putfield 207, 3) := dk_181 0 207 (dk_at dksX0_takes_0 2 rfl rfl)
theorem dX0_takes_5 : decode cX0_takes 5 = .ok (.iconst 0, 1) := dk_3 (dk_at dksX0_takes_0 5 rfl rfl)
theorem dX0_takes_6 : decode cX0_takes 6 = .ok (.istore_n 1, 1) := dk_60 (dk_at dksX0_takes_0 6 rfl rfl)
theorem dX0_takes_7 : decode cX0_takes 7 = .ok (.iload_n 1, 1) := dk_27 (dk_at dksX0_takes_0 7 rfl rfl)
theorem dX0_takes_8 : decode cX0_takes 8 = .ok (.bipush 8, 2) := dk_16 8 (dk_at dksX0_takes_0 8 rfl rfl)
theorem dX0_takes_10 : decode cX0_takes 10 = .ok (.if_icmp .ge 23, 3) := dk_162 0 23 (dk_at dksX0_takes_0 10 rfl rfl)
theorem dX0_takes_13 : decode cX0_takes 13 = .ok (.aload_n 0, 1) := dk_42 (dk_at dksX0_takes_0 13 rfl rfl)
theorem dX0_takes_14 : decode cX0_takes 14 = .ok (.getfield 198, 3) := dk_180 0 198 (dk_at dksX0_takes_0 14 rfl rfl)
theorem dX0_takes_17 : decode cX0_takes 17 = .ok (.iload_n 1, 1) := dk_27 (dk_at dksX0_takes_0 17 rfl rfl)
theorem dX0_takes_18 : decode cX0_takes 18 = .ok (.iconst (-1), 1) := dk_2 (dk_at dksX0_takes_0 18 rfl rfl)
theorem dX0_takes_19 : decode cX0_takes 19 = .ok (.iastore, 1) := dk_79 (dk_at dksX0_takes_0 19 rfl rfl)
theorem dX0_takes_20 : decode cX0_takes 20 = .ok (.aload_n 0, 1) := dk_42 (dk_at dksX0_takes_0 20 rfl rfl)
theorem dX0_takes_21 : decode cX0_takes 21 = .ok (.getfield 204, 3) := dk_180 0 204 (dk_at dksX0_takes_0 21 rfl rfl)
theorem dX0_takes_24 : decode cX0_takes 24 = .ok (.iload_n 1, 1) := dk_27 (dk_at dksX0_takes_1 0 rfl rfl)
theorem dX0_takes_25 : decode cX0_takes 25 = .ok (.iconst (-1), 1) := dk_2 (dk_at dksX0_takes_1 1 rfl rfl)
theorem dX0_takes_26 : decode cX0_takes 26 = .ok (.iastore, 1) := dk_79 (dk_at dksX0_takes_1 2 rfl rfl)
theorem dX0_takes_27 : decode cX0_takes 27 = .ok (.iinc 1 1, 3) := dk_132 1 1 (dk_at dksX0_takes_1 3 rfl rfl)
theorem dX0_takes_30 : decode cX0_takes 30 = .ok (.goto (-23), 3) := dk_167 255 233 (dk_at dksX0_takes_1 6 rfl rfl)
theorem dX0_takes_33 : decode cX0_takes 33 = .ok (.iconst 1, 1) := dk_4 (dk_at dksX0_takes_1 9 rfl rfl)
theorem dX0_takes_34 : decode cX0_takes 34 = .ok (.istore_n 1, 1) := dk_60 (dk_at dksX0_takes_1 10 rfl rfl)
theorem dX0_takes_35 : decode cX0_takes 35 = .ok (.iload_n 1, 1) := dk_27 (dk_at dksX0_takes_1 11 rfl rfl)
theorem dX0_takes_36 : decode cX0_takes 36 = .ok (.ifCond .eq 11, 3) := dk_153 0 11 (dk_at dksX0_takes_1 12 rfl rfl)
theorem dX0_takes_39 : decode cX0_takes 39 = .ok (.aload_n 0, 1) := dk_42 (dk_at dksX0_takes_1 15 rfl rfl)
theorem dX0_takes_40 : decode cX0_takes 40 = .ok (.invokevirtual 213, 3) := dk_182 0 213 (dk_at dksX0_takes_1 16 rfl rfl)
theorem dX0_takes_43 : decode cX0_takes 43 = .ok (.istore_n 1, 1) := dk_60 (dk_at dksX0_takes_1 19 rfl rfl)
theorem dX0_takes_44 : decode cX0_takes 44 = .ok (.goto (-9), 3) := dk_167 255 247 (dk_at dksX0_takes_1 20 rfl rfl)
theorem dX0_takes_47 : decode cX0_takes 47 = .ok (.return_, 1) := dk_177 (dk_at dksX0_takes_1 23 rfl rfl)
abbrev cX0_takesOne : ByteArray := prog_1_method_32_code
def yX0_takesOne : MethodName := ⟨RX0, "takesOne", "()Z"⟩
def dkwX0_takesOne_7 : List UInt8 := [181, 0, 207, 4, 172]
abbrev dktX0_takesOne_7 : List UInt8 := dkwX0_takesOne_7 ++ []
def dkwX0_takesOne_6 : List UInt8 := [27, 42, 180, 0, 207, 79, 42, 180, 0, 210, 42, 180, 0, 207, 27, 79, 42, 89, 180, 0, 207, 4, 96]
abbrev dktX0_takesOne_6 : List UInt8 := dkwX0_takesOne_6 ++ dktX0_takesOne_7
def dkwX0_takesOne_5 : List UInt8 := [132, 3, 1, 167, 255, 144, 27, 2, 160, 0, 5, 3, 172, 42, 180, 0, 198, 27, 28, 79, 42, 180, 0, 204]
abbrev dktX0_takesOne_5 : List UInt8 := dkwX0_takesOne_5 ++ dktX0_takesOne_6
def dkwX0_takesOne_4 : List UInt8 := [46, 42, 180, 0, 156, 27, 50, 28, 46, 164, 0, 8, 29, 60, 21, 4, 61, 132, 4, 1, 167, 255, 163]
abbrev dktX0_takesOne_4 : List UInt8 := dkwX0_takesOne_4 ++ dktX0_takesOne_5
def dkwX0_takesOne_3 : List UInt8 := [167, 0, 4, 3, 54, 5, 21, 5, 153, 0, 33, 27, 2, 159, 0, 23, 42, 180, 0, 156, 29, 50, 21, 4]
abbrev dktX0_takesOne_3 : List UInt8 := dkwX0_takesOne_3 ++ dktX0_takesOne_4
def dkwX0_takesOne_2 : List UInt8 := [21, 4, 46, 42, 180, 0, 130, 5, 46, 161, 0, 16, 42, 21, 4, 182, 0, 201, 153, 0, 7, 4]
abbrev dktX0_takesOne_2 : List UInt8 := dkwX0_takesOne_2 ++ dktX0_takesOne_3
def dkwX0_takesOne_1 : List UInt8 := [180, 0, 11, 3, 46, 162, 0, 88, 42, 180, 0, 198, 29, 46, 2, 160, 0, 78, 42, 180, 0, 156, 29, 50]
abbrev dktX0_takesOne_1 : List UInt8 := dkwX0_takesOne_1 ++ dktX0_takesOne_2
def dkwX0_takesOne_0 : List UInt8 := [2, 60, 2, 61, 3, 62, 29, 42, 180, 0, 11, 4, 46, 162, 0, 108, 3, 54, 4, 21, 4, 42]
abbrev dktX0_takesOne_0 : List UInt8 := dkwX0_takesOne_0 ++ dktX0_takesOne_1
theorem dksX0_takesOne_0 : cX0_takesOne.data.toList.drop 0 = dktX0_takesOne_0 := by decide +kernel
theorem dksX0_takesOne_1 : cX0_takesOne.data.toList.drop 22 = dktX0_takesOne_1 := dk_seg dksX0_takesOne_0 22 rfl rfl
theorem dksX0_takesOne_2 : cX0_takesOne.data.toList.drop 46 = dktX0_takesOne_2 := dk_seg dksX0_takesOne_1 24 rfl rfl
theorem dksX0_takesOne_3 : cX0_takesOne.data.toList.drop 68 = dktX0_takesOne_3 := dk_seg dksX0_takesOne_2 22 rfl rfl
theorem dksX0_takesOne_4 : cX0_takesOne.data.toList.drop 92 = dktX0_takesOne_4 := dk_seg dksX0_takesOne_3 24 rfl rfl
theorem dksX0_takesOne_5 : cX0_takesOne.data.toList.drop 115 = dktX0_takesOne_5 := dk_seg dksX0_takesOne_4 23 rfl rfl
theorem dksX0_takesOne_6 : cX0_takesOne.data.toList.drop 139 = dktX0_takesOne_6 := dk_seg dksX0_takesOne_5 24 rfl rfl
theorem dksX0_takesOne_7 : cX0_takesOne.data.toList.drop 162 = dktX0_takesOne_7 := dk_seg dksX0_takesOne_6 23 rfl rfl
theorem dX0_takesOne_0 : decode cX0_takesOne 0 = .ok (.iconst (-1), 1) := dk_2 (dk_at dksX0_takesOne_0 0 rfl rfl)
theorem dX0_takesOne_1 : decode cX0_takesOne 1 = .ok (.istore_n 1, 1) := dk_60 (dk_at dksX0_takesOne_0 1 rfl rfl)
theorem dX0_takesOne_2 : decode cX0_takesOne 2 = .ok (.iconst (-1), 1) := dk_2 (dk_at dksX0_takesOne_0 2 rfl rfl)
theorem dX0_takesOne_3 : decode cX0_takesOne 3 = .ok (.istore_n 2, 1) := dk_61 (dk_at dksX0_takesOne_0 3 rfl rfl)
theorem dX0_takesOne_4 : decode cX0_takesOne 4 = .ok (.iconst 0, 1) := dk_3 (dk_at dksX0_takesOne_0 4 rfl rfl)
theorem dX0_takesOne_5 : decode cX0_takesOne 5 = .ok (.istore_n 3, 1) := dk_62 (dk_at dksX0_takesOne_0 5 rfl rfl)
theorem dX0_takesOne_6 : decode cX0_takesOne 6 = .ok (.iload_n 3, 1) := dk_29 (dk_at dksX0_takesOne_0 6 rfl rfl)
theorem dX0_takesOne_7 : decode cX0_takesOne 7 = .ok (.aload_n 0, 1) := dk_42 (dk_at dksX0_takesOne_0 7 rfl rfl)
theorem dX0_takesOne_8 : decode cX0_takesOne 8 = .ok (.getfield 11, 3) := dk_180 0 11 (dk_at dksX0_takesOne_0 8 rfl rfl)
theorem dX0_takesOne_11 : decode cX0_takesOne 11 = .ok (.iconst 1, 1) := dk_4 (dk_at dksX0_takesOne_0 11 rfl rfl)
theorem dX0_takesOne_12 : decode cX0_takesOne 12 = .ok (.iaload, 1) := dk_46 (dk_at dksX0_takesOne_0 12 rfl rfl)
theorem dX0_takesOne_13 : decode cX0_takesOne 13 = .ok (.if_icmp .ge 108, 3) := dk_162 0 108 (dk_at dksX0_takesOne_0 13 rfl rfl)
theorem dX0_takesOne_16 : decode cX0_takesOne 16 = .ok (.iconst 0, 1) := dk_3 (dk_at dksX0_takesOne_0 16 rfl rfl)
theorem dX0_takesOne_17 : decode cX0_takesOne 17 = .ok (.istore 4, 2) := dk_54 4 (dk_at dksX0_takesOne_0 17 rfl rfl)
theorem dX0_takesOne_19 : decode cX0_takesOne 19 = .ok (.iload 4, 2) := dk_21 4 (dk_at dksX0_takesOne_0 19 rfl rfl)
theorem dX0_takesOne_21 : decode cX0_takesOne 21 = .ok (.aload_n 0, 1) := dk_42 (dk_at dksX0_takesOne_0 21 rfl rfl)
theorem dX0_takesOne_22 : decode cX0_takesOne 22 = .ok (.getfield 11, 3) := dk_180 0 11 (dk_at dksX0_takesOne_1 0 rfl rfl)
theorem dX0_takesOne_25 : decode cX0_takesOne 25 = .ok (.iconst 0, 1) := dk_3 (dk_at dksX0_takesOne_1 3 rfl rfl)
theorem dX0_takesOne_26 : decode cX0_takesOne 26 = .ok (.iaload, 1) := dk_46 (dk_at dksX0_takesOne_1 4 rfl rfl)
theorem dX0_takesOne_27 : decode cX0_takesOne 27 = .ok (.if_icmp .ge 88, 3) := dk_162 0 88 (dk_at dksX0_takesOne_1 5 rfl rfl)
theorem dX0_takesOne_30 : decode cX0_takesOne 30 = .ok (.aload_n 0, 1) := dk_42 (dk_at dksX0_takesOne_1 8 rfl rfl)
theorem dX0_takesOne_31 : decode cX0_takesOne 31 = .ok (.getfield 198, 3) := dk_180 0 198 (dk_at dksX0_takesOne_1 9 rfl rfl)
theorem dX0_takesOne_34 : decode cX0_takesOne 34 = .ok (.iload_n 3, 1) := dk_29 (dk_at dksX0_takesOne_1 12 rfl rfl)
theorem dX0_takesOne_35 : decode cX0_takesOne 35 = .ok (.iaload, 1) := dk_46 (dk_at dksX0_takesOne_1 13 rfl rfl)
theorem dX0_takesOne_36 : decode cX0_takesOne 36 = .ok (.iconst (-1), 1) := dk_2 (dk_at dksX0_takesOne_1 14 rfl rfl)
theorem dX0_takesOne_37 : decode cX0_takesOne 37 = .ok (.if_icmp .ne 78, 3) := dk_160 0 78 (dk_at dksX0_takesOne_1 15 rfl rfl)
theorem dX0_takesOne_40 : decode cX0_takesOne 40 = .ok (.aload_n 0, 1) := dk_42 (dk_at dksX0_takesOne_1 18 rfl rfl)
theorem dX0_takesOne_41 : decode cX0_takesOne 41 = .ok (.getfield 156, 3) := dk_180 0 156 (dk_at dksX0_takesOne_1 19 rfl rfl)
theorem dX0_takesOne_44 : decode cX0_takesOne 44 = .ok (.iload_n 3, 1) := dk_29 (dk_at dksX0_takesOne_1 22 rfl rfl)
theorem dX0_takesOne_45 : decode cX0_takesOne 45 = .ok (.aaload, 1) := dk_50 (dk_at dksX0_takesOne_1 23 rfl rfl)
theorem dX0_takesOne_46 : decode cX0_takesOne 46 = .ok (.iload 4, 2) := dk_21 4 (dk_at dksX0_takesOne_2 0 rfl rfl)
theorem dX0_takesOne_48 : decode cX0_takesOne 48 = .ok (.iaload, 1) := dk_46 (dk_at dksX0_takesOne_2 2 rfl rfl)
theorem dX0_takesOne_49 : decode cX0_takesOne 49 = .ok (.aload_n 0, 1) := dk_42 (dk_at dksX0_takesOne_2 3 rfl rfl)
theorem dX0_takesOne_50 : decode cX0_takesOne 50 = .ok (.getfield 130, 3) := dk_180 0 130 (dk_at dksX0_takesOne_2 4 rfl rfl)
theorem dX0_takesOne_53 : decode cX0_takesOne 53 = .ok (.iconst 2, 1) := dk_5 (dk_at dksX0_takesOne_2 7 rfl rfl)
theorem dX0_takesOne_54 : decode cX0_takesOne 54 = .ok (.iaload, 1) := dk_46 (dk_at dksX0_takesOne_2 8 rfl rfl)
theorem dX0_takesOne_55 : decode cX0_takesOne 55 = .ok (.if_icmp .lt 16, 3) := dk_161 0 16 (dk_at dksX0_takesOne_2 9 rfl rfl)
theorem dX0_takesOne_58 : decode cX0_takesOne 58 = .ok (.aload_n 0, 1) := dk_42 (dk_at dksX0_takesOne_2 12 rfl rfl)
theorem dX0_takesOne_59 : decode cX0_takesOne 59 = .ok (.iload 4, 2) := dk_21 4 (dk_at dksX0_takesOne_2 13 rfl rfl)
theorem dX0_takesOne_61 : decode cX0_takesOne 61 = .ok (.invokevirtual 201, 3) := dk_182 0 201 (dk_at dksX0_takesOne_2 15 rfl rfl)
theorem dX0_takesOne_64 : decode cX0_takesOne 64 = .ok (.ifCond .eq 7, 3) := dk_153 0 7 (dk_at dksX0_takesOne_2 18 rfl rfl)
theorem dX0_takesOne_67 : decode cX0_takesOne 67 = .ok (.iconst 1, 1) := dk_4 (dk_at dksX0_takesOne_2 21 rfl rfl)
theorem dX0_takesOne_68 : decode cX0_takesOne 68 = .ok (.goto 4, 3) := dk_167 0 4 (dk_at dksX0_takesOne_3 0 rfl rfl)
theorem dX0_takesOne_71 : decode cX0_takesOne 71 = .ok (.iconst 0, 1) := dk_3 (dk_at dksX0_takesOne_3 3 rfl rfl)
theorem dX0_takesOne_72 : decode cX0_takesOne 72 = .ok (.istore 5, 2) := dk_54 5 (dk_at dksX0_takesOne_3 4 rfl rfl)
theorem dX0_takesOne_74 : decode cX0_takesOne 74 = .ok (.iload 5, 2) := dk_21 5 (dk_at dksX0_takesOne_3 6 rfl rfl)
theorem dX0_takesOne_76 : decode cX0_takesOne 76 = .ok (.ifCond .eq 33, 3) := dk_153 0 33 (dk_at dksX0_takesOne_3 8 rfl rfl)
theorem dX0_takesOne_79 : decode cX0_takesOne 79 = .ok (.iload_n 1, 1) := dk_27 (dk_at dksX0_takesOne_3 11 rfl rfl)
theorem dX0_takesOne_80 : decode cX0_takesOne 80 = .ok (.iconst (-1), 1) := dk_2 (dk_at dksX0_takesOne_3 12 rfl rfl)
theorem dX0_takesOne_81 : decode cX0_takesOne 81 = .ok (.if_icmp .eq 23, 3) := dk_159 0 23 (dk_at dksX0_takesOne_3 13 rfl rfl)
theorem dX0_takesOne_84 : decode cX0_takesOne 84 = .ok (.aload_n 0, 1) := dk_42 (dk_at dksX0_takesOne_3 16 rfl rfl)
theorem dX0_takesOne_85 : decode cX0_takesOne 85 = .ok (.getfield 156, 3) := dk_180 0 156 (dk_at dksX0_takesOne_3 17 rfl rfl)
theorem dX0_takesOne_88 : decode cX0_takesOne 88 = .ok (.iload_n 3, 1) := dk_29 (dk_at dksX0_takesOne_3 20 rfl rfl)
theorem dX0_takesOne_89 : decode cX0_takesOne 89 = .ok (.aaload, 1) := dk_50 (dk_at dksX0_takesOne_3 21 rfl rfl)
theorem dX0_takesOne_90 : decode cX0_takesOne 90 = .ok (.iload 4, 2) := dk_21 4 (dk_at dksX0_takesOne_3 22 rfl rfl)
theorem dX0_takesOne_92 : decode cX0_takesOne 92 = .ok (.iaload, 1) := dk_46 (dk_at dksX0_takesOne_4 0 rfl rfl)
theorem dX0_takesOne_93 : decode cX0_takesOne 93 = .ok (.aload_n 0, 1) := dk_42 (dk_at dksX0_takesOne_4 1 rfl rfl)
theorem dX0_takesOne_94 : decode cX0_takesOne 94 = .ok (.getfield 156, 3) := dk_180 0 156 (dk_at dksX0_takesOne_4 2 rfl rfl)
theorem dX0_takesOne_97 : decode cX0_takesOne 97 = .ok (.iload_n 1, 1) := dk_27 (dk_at dksX0_takesOne_4 5 rfl rfl)
theorem dX0_takesOne_98 : decode cX0_takesOne 98 = .ok (.aaload, 1) := dk_50 (dk_at dksX0_takesOne_4 6 rfl rfl)
theorem dX0_takesOne_99 : decode cX0_takesOne 99 = .ok (.iload_n 2, 1) := dk_28 (dk_at dksX0_takesOne_4 7 rfl rfl)
theorem dX0_takesOne_100 : decode cX0_takesOne 100 = .ok (.iaload, 1) := dk_46 (dk_at dksX0_takesOne_4 8 rfl rfl)
theorem dX0_takesOne_101 : decode cX0_takesOne 101 = .ok (.if_icmp .le 8, 3) := dk_164 0 8 (dk_at dksX0_takesOne_4 9 rfl rfl)
theorem dX0_takesOne_104 : decode cX0_takesOne 104 = .ok (.iload_n 3, 1) := dk_29 (dk_at dksX0_takesOne_4 12 rfl rfl)
theorem dX0_takesOne_105 : decode cX0_takesOne 105 = .ok (.istore_n 1, 1) := dk_60 (dk_at dksX0_takesOne_4 13 rfl rfl)
theorem dX0_takesOne_106 : decode cX0_takesOne 106 = .ok (.iload 4, 2) := dk_21 4 (dk_at dksX0_takesOne_4 14 rfl rfl)
theorem dX0_takesOne_108 : decode cX0_takesOne 108 = .ok (.istore_n 2, 1) := dk_61 (dk_at dksX0_takesOne_4 16 rfl rfl)
theorem dX0_takesOne_109 : decode cX0_takesOne 109 = .ok (.iinc 4 1, 3) := dk_132 4 1 (dk_at dksX0_takesOne_4 17 rfl rfl)
theorem dX0_takesOne_112 : decode cX0_takesOne 112 = .ok (.goto (-93), 3) := dk_167 255 163 (dk_at dksX0_takesOne_4 20 rfl rfl)
theorem dX0_takesOne_115 : decode cX0_takesOne 115 = .ok (.iinc 3 1, 3) := dk_132 3 1 (dk_at dksX0_takesOne_5 0 rfl rfl)
theorem dX0_takesOne_118 : decode cX0_takesOne 118 = .ok (.goto (-112), 3) := dk_167 255 144 (dk_at dksX0_takesOne_5 3 rfl rfl)
theorem dX0_takesOne_121 : decode cX0_takesOne 121 = .ok (.iload_n 1, 1) := dk_27 (dk_at dksX0_takesOne_5 6 rfl rfl)
theorem dX0_takesOne_122 : decode cX0_takesOne 122 = .ok (.iconst (-1), 1) := dk_2 (dk_at dksX0_takesOne_5 7 rfl rfl)
theorem dX0_takesOne_123 : decode cX0_takesOne 123 = .ok (.if_icmp .ne 5, 3) := dk_160 0 5 (dk_at dksX0_takesOne_5 8 rfl rfl)
theorem dX0_takesOne_126 : decode cX0_takesOne 126 = .ok (.iconst 0, 1) := dk_3 (dk_at dksX0_takesOne_5 11 rfl rfl)
theorem dX0_takesOne_127 : decode cX0_takesOne 127 = .ok (.ireturn, 1) := dk_172 (dk_at dksX0_takesOne_5 12 rfl rfl)
theorem dX0_takesOne_128 : decode cX0_takesOne 128 = .ok (.aload_n 0, 1) := dk_42 (dk_at dksX0_takesOne_5 13 rfl rfl)
theorem dX0_takesOne_129 : decode cX0_takesOne 129 = .ok (.getfield 198, 3) := dk_180 0 198 (dk_at dksX0_takesOne_5 14 rfl rfl)
theorem dX0_takesOne_132 : decode cX0_takesOne 132 = .ok (.iload_n 1, 1) := dk_27 (dk_at dksX0_takesOne_5 17 rfl rfl)
theorem dX0_takesOne_133 : decode cX0_takesOne 133 = .ok (.iload_n 2, 1) := dk_28 (dk_at dksX0_takesOne_5 18 rfl rfl)
theorem dX0_takesOne_134 : decode cX0_takesOne 134 = .ok (.iastore, 1) := dk_79 (dk_at dksX0_takesOne_5 19 rfl rfl)
theorem dX0_takesOne_135 : decode cX0_takesOne 135 = .ok (.aload_n 0, 1) := dk_42 (dk_at dksX0_takesOne_5 20 rfl rfl)
theorem dX0_takesOne_136 : decode cX0_takesOne 136 = .ok (.getfield 204, 3) := dk_180 0 204 (dk_at dksX0_takesOne_5 21 rfl rfl)
theorem dX0_takesOne_139 : decode cX0_takesOne 139 = .ok (.iload_n 1, 1) := dk_27 (dk_at dksX0_takesOne_6 0 rfl rfl)
theorem dX0_takesOne_140 : decode cX0_takesOne 140 = .ok (.aload_n 0, 1) := dk_42 (dk_at dksX0_takesOne_6 1 rfl rfl)
theorem dX0_takesOne_141 : decode cX0_takesOne 141 = .ok (.getfield 207, 3) := dk_180 0 207 (dk_at dksX0_takesOne_6 2 rfl rfl)
theorem dX0_takesOne_144 : decode cX0_takesOne 144 = .ok (.iastore, 1) := dk_79 (dk_at dksX0_takesOne_6 5 rfl rfl)
theorem dX0_takesOne_145 : decode cX0_takesOne 145 = .ok (.aload_n 0, 1) := dk_42 (dk_at dksX0_takesOne_6 6 rfl rfl)
theorem dX0_takesOne_146 : decode cX0_takesOne 146 = .ok (.getfield 210, 3) := dk_180 0 210 (dk_at dksX0_takesOne_6 7 rfl rfl)
theorem dX0_takesOne_149 : decode cX0_takesOne 149 = .ok (.aload_n 0, 1) := dk_42 (dk_at dksX0_takesOne_6 10 rfl rfl)
theorem dX0_takesOne_150 : decode cX0_takesOne 150 = .ok (.getfield 207, 3) := dk_180 0 207 (dk_at dksX0_takesOne_6 11 rfl rfl)
theorem dX0_takesOne_153 : decode cX0_takesOne 153 = .ok (.iload_n 1, 1) := dk_27 (dk_at dksX0_takesOne_6 14 rfl rfl)
theorem dX0_takesOne_154 : decode cX0_takesOne 154 = .ok (.iastore, 1) := dk_79 (dk_at dksX0_takesOne_6 15 rfl rfl)
theorem dX0_takesOne_155 : decode cX0_takesOne 155 = .ok (.aload_n 0, 1) := dk_42 (dk_at dksX0_takesOne_6 16 rfl rfl)
theorem dX0_takesOne_156 : decode cX0_takesOne 156 = .ok (.dup, 1) := dk_89 (dk_at dksX0_takesOne_6 17 rfl rfl)
theorem dX0_takesOne_157 : decode cX0_takesOne 157 = .ok (.getfield 207, 3) := dk_180 0 207 (dk_at dksX0_takesOne_6 18 rfl rfl)
theorem dX0_takesOne_160 : decode cX0_takesOne 160 = .ok (.iconst 1, 1) := dk_4 (dk_at dksX0_takesOne_6 21 rfl rfl)
theorem dX0_takesOne_161 : decode cX0_takesOne 161 = .ok (.iadd, 1) := dk_96 (dk_at dksX0_takesOne_6 22 rfl rfl)
theorem dX0_takesOne_162 : decode cX0_takesOne 162 = .ok (.putfield 207, 3) := dk_181 0 207 (dk_at dksX0_takesOne_7 0 rfl rfl)
theorem dX0_takesOne_165 : decode cX0_takesOne 165 = .ok (.iconst 1, 1) := dk_4 (dk_at dksX0_takesOne_7 3 rfl rfl)
theorem dX0_takesOne_166 : decode cX0_takesOne 166 = .ok (.ireturn, 1) := dk_172 (dk_at dksX0_takesOne_7 4 rfl rfl)
abbrev cX0_isFree : ByteArray := prog_1_method_31_code
def yX0_isFree : MethodName := ⟨RX0, "isFree", "(I)Z"⟩
def dkwX0_isFree_1 : List UInt8 := [4, 167, 0, 4, 3, 61, 132, 3, 1, 167, 255, 227, 28, 172]
abbrev dktX0_isFree_1 : List UInt8 := dkwX0_isFree_1 ++ []
def dkwX0_isFree_0 : List UInt8 := [4, 61, 3, 62, 29, 16, 8, 162, 0, 29, 28, 153, 0, 17, 42, 180, 0, 198, 29, 46, 27, 159, 0, 7]
abbrev dktX0_isFree_0 : List UInt8 := dkwX0_isFree_0 ++ dktX0_isFree_1
theorem dksX0_isFree_0 : cX0_isFree.data.toList.drop 0 = dktX0_isFree_0 := by decide +kernel
theorem dksX0_isFree_1 : cX0_isFree.data.toList.drop 24 = dktX0_isFree_1 := dk_seg dksX0_isFree_0 24 rfl rfl
theorem dX0_isFree_0 : decode cX0_isFree 0 = .ok (.iconst 1, 1) := dk_4 (dk_at dksX0_isFree_0 0 rfl rfl)
theorem dX0_isFree_1 : decode cX0_isFree 1 = .ok (.istore_n 2, 1) := dk_61 (dk_at dksX0_isFree_0 1 rfl rfl)
theorem dX0_isFree_2 : decode cX0_isFree 2 = .ok (.iconst 0, 1) := dk_3 (dk_at dksX0_isFree_0 2 rfl rfl)
theorem dX0_isFree_3 : decode cX0_isFree 3 = .ok (.istore_n 3, 1) := dk_62 (dk_at dksX0_isFree_0 3 rfl rfl)
theorem dX0_isFree_4 : decode cX0_isFree 4 = .ok (.iload_n 3, 1) := dk_29 (dk_at dksX0_isFree_0 4 rfl rfl)
theorem dX0_isFree_5 : decode cX0_isFree 5 = .ok (.bipush 8, 2) := dk_16 8 (dk_at dksX0_isFree_0 5 rfl rfl)
theorem dX0_isFree_7 : decode cX0_isFree 7 = .ok (.if_icmp .ge 29, 3) := dk_162 0 29 (dk_at dksX0_isFree_0 7 rfl rfl)
theorem dX0_isFree_10 : decode cX0_isFree 10 = .ok (.iload_n 2, 1) := dk_28 (dk_at dksX0_isFree_0 10 rfl rfl)
theorem dX0_isFree_11 : decode cX0_isFree 11 = .ok (.ifCond .eq 17, 3) := dk_153 0 17 (dk_at dksX0_isFree_0 11 rfl rfl)
theorem dX0_isFree_14 : decode cX0_isFree 14 = .ok (.aload_n 0, 1) := dk_42 (dk_at dksX0_isFree_0 14 rfl rfl)
theorem dX0_isFree_15 : decode cX0_isFree 15 = .ok (.getfield 198, 3) := dk_180 0 198 (dk_at dksX0_isFree_0 15 rfl rfl)
theorem dX0_isFree_18 : decode cX0_isFree 18 = .ok (.iload_n 3, 1) := dk_29 (dk_at dksX0_isFree_0 18 rfl rfl)
theorem dX0_isFree_19 : decode cX0_isFree 19 = .ok (.iaload, 1) := dk_46 (dk_at dksX0_isFree_0 19 rfl rfl)
theorem dX0_isFree_20 : decode cX0_isFree 20 = .ok (.iload_n 1, 1) := dk_27 (dk_at dksX0_isFree_0 20 rfl rfl)
theorem dX0_isFree_21 : decode cX0_isFree 21 = .ok (.if_icmp .eq 7, 3) := dk_159 0 7 (dk_at dksX0_isFree_0 21 rfl rfl)
theorem dX0_isFree_24 : decode cX0_isFree 24 = .ok (.iconst 1, 1) := dk_4 (dk_at dksX0_isFree_1 0 rfl rfl)
theorem dX0_isFree_25 : decode cX0_isFree 25 = .ok (.goto 4, 3) := dk_167 0 4 (dk_at dksX0_isFree_1 1 rfl rfl)
theorem dX0_isFree_28 : decode cX0_isFree 28 = .ok (.iconst 0, 1) := dk_3 (dk_at dksX0_isFree_1 4 rfl rfl)
theorem dX0_isFree_29 : decode cX0_isFree 29 = .ok (.istore_n 2, 1) := dk_61 (dk_at dksX0_isFree_1 5 rfl rfl)
theorem dX0_isFree_30 : decode cX0_isFree 30 = .ok (.iinc 3 1, 3) := dk_132 3 1 (dk_at dksX0_isFree_1 6 rfl rfl)
theorem dX0_isFree_33 : decode cX0_isFree 33 = .ok (.goto (-29), 3) := dk_167 255 227 (dk_at dksX0_isFree_1 9 rfl rfl)
theorem dX0_isFree_36 : decode cX0_isFree 36 = .ok (.iload_n 2, 1) := dk_28 (dk_at dksX0_isFree_1 12 rfl rfl)
theorem dX0_isFree_37 : decode cX0_isFree 37 = .ok (.ireturn, 1) := dk_172 (dk_at dksX0_isFree_1 13 rfl rfl)
abbrev cX0_findsTurn : ByteArray := prog_1_method_39_code
def yX0_findsTurn : MethodName := ⟨RX0, "findsTurn", "()V"⟩
def dkwX0_findsTurn_5 : List UInt8 := [153, 0, 14, 42, 27, 182, 1, 9, 132, 1, 1, 167, 255, 231, 177]
abbrev dktX0_findsTurn_5 : List UInt8 := dkwX0_findsTurn_5 ++ []
def dkwX0_findsTurn_4 : List UInt8 := [167, 0, 4, 3, 181, 1, 2, 3, 60, 27, 42, 180, 0, 11, 3, 46, 162, 0, 21, 42, 180, 1, 2]
abbrev dktX0_findsTurn_4 : List UInt8 := dkwX0_findsTurn_4 ++ dktX0_findsTurn_5
def dkwX0_findsTurn_3 : List UInt8 := [50, 42, 180, 0, 198, 28, 46, 50, 42, 180, 0, 245, 182, 1, 5, 153, 0, 11, 29, 153, 0, 7, 4]
abbrev dktX0_findsTurn_3 : List UInt8 := dkwX0_findsTurn_3 ++ dktX0_findsTurn_4
def dkwX0_findsTurn_2 : List UInt8 := [182, 1, 5, 62, 42, 42, 42, 180, 0, 7, 3, 50, 42, 180, 0, 198, 27, 46, 50, 42, 180, 0, 7, 3]
abbrev dktX0_findsTurn_2 : List UInt8 := dkwX0_findsTurn_2 ++ dktX0_findsTurn_3
def dkwX0_findsTurn_1 : List UInt8 := [4, 46, 61, 42, 42, 180, 0, 7, 4, 50, 27, 50, 42, 180, 0, 7, 4, 50, 28, 50, 42, 180, 0, 249]
abbrev dktX0_findsTurn_1 : List UInt8 := dkwX0_findsTurn_1 ++ dktX0_findsTurn_2
def dkwX0_findsTurn_0 : List UInt8 := [42, 3, 181, 1, 2, 42, 180, 0, 207, 4, 164, 0, 92, 42, 180, 0, 210, 3, 46, 60, 42, 180, 0, 210]
abbrev dktX0_findsTurn_0 : List UInt8 := dkwX0_findsTurn_0 ++ dktX0_findsTurn_1
theorem dksX0_findsTurn_0 : cX0_findsTurn.data.toList.drop 0 = dktX0_findsTurn_0 := by decide +kernel
theorem dksX0_findsTurn_1 : cX0_findsTurn.data.toList.drop 24 = dktX0_findsTurn_1 := dk_seg dksX0_findsTurn_0 24 rfl rfl
theorem dksX0_findsTurn_2 : cX0_findsTurn.data.toList.drop 48 = dktX0_findsTurn_2 := dk_seg dksX0_findsTurn_1 24 rfl rfl
theorem dksX0_findsTurn_3 : cX0_findsTurn.data.toList.drop 72 = dktX0_findsTurn_3 := dk_seg dksX0_findsTurn_2 24 rfl rfl
theorem dksX0_findsTurn_4 : cX0_findsTurn.data.toList.drop 95 = dktX0_findsTurn_4 := dk_seg dksX0_findsTurn_3 23 rfl rfl
theorem dksX0_findsTurn_5 : cX0_findsTurn.data.toList.drop 118 = dktX0_findsTurn_5 := dk_seg dksX0_findsTurn_4 23 rfl rfl
theorem dX0_findsTurn_0 : decode cX0_findsTurn 0 = .ok (.aload_n 0, 1) := dk_42 (dk_at dksX0_findsTurn_0 0 rfl rfl)
theorem dX0_findsTurn_1 : decode cX0_findsTurn 1 = .ok (.iconst 0, 1) := dk_3 (dk_at dksX0_findsTurn_0 1 rfl rfl)
theorem dX0_findsTurn_2 : decode cX0_findsTurn 2 = .ok (.putfield 258, 3) := dk_181 1 2 (dk_at dksX0_findsTurn_0 2 rfl rfl)
theorem dX0_findsTurn_5 : decode cX0_findsTurn 5 = .ok (.aload_n 0, 1) := dk_42 (dk_at dksX0_findsTurn_0 5 rfl rfl)
theorem dX0_findsTurn_6 : decode cX0_findsTurn 6 = .ok (.getfield 207, 3) := dk_180 0 207 (dk_at dksX0_findsTurn_0 6 rfl rfl)
theorem dX0_findsTurn_9 : decode cX0_findsTurn 9 = .ok (.iconst 1, 1) := dk_4 (dk_at dksX0_findsTurn_0 9 rfl rfl)
theorem dX0_findsTurn_10 : decode cX0_findsTurn 10 = .ok (.if_icmp .le 92, 3) := dk_164 0 92 (dk_at dksX0_findsTurn_0 10 rfl rfl)
theorem dX0_findsTurn_13 : decode cX0_findsTurn 13 = .ok (.aload_n 0, 1) := dk_42 (dk_at dksX0_findsTurn_0 13 rfl rfl)
theorem dX0_findsTurn_14 : decode cX0_findsTurn 14 = .ok (.getfield 210, 3) := dk_180 0 210 (dk_at dksX0_findsTurn_0 14 rfl rfl)
theorem dX0_findsTurn_17 : decode cX0_findsTurn 17 = .ok (.iconst 0, 1) := dk_3 (dk_at dksX0_findsTurn_0 17 rfl rfl)
theorem dX0_findsTurn_18 : decode cX0_findsTurn 18 = .ok (.iaload, 1) := dk_46 (dk_at dksX0_findsTurn_0 18 rfl rfl)
theorem dX0_findsTurn_19 : decode cX0_findsTurn 19 = .ok (.istore_n 1, 1) := dk_60 (dk_at dksX0_findsTurn_0 19 rfl rfl)
theorem dX0_findsTurn_20 : decode cX0_findsTurn 20 = .ok (.aload_n 0, 1) := dk_42 (dk_at dksX0_findsTurn_0 20 rfl rfl)
theorem dX0_findsTurn_21 : decode cX0_findsTurn 21 = .ok (.getfield 210, 3) := dk_180 0 210 (dk_at dksX0_findsTurn_0 21 rfl rfl)
theorem dX0_findsTurn_24 : decode cX0_findsTurn 24 = .ok (.iconst 1, 1) := dk_4 (dk_at dksX0_findsTurn_1 0 rfl rfl)
theorem dX0_findsTurn_25 : decode cX0_findsTurn 25 = .ok (.iaload, 1) := dk_46 (dk_at dksX0_findsTurn_1 1 rfl rfl)
theorem dX0_findsTurn_26 : decode cX0_findsTurn 26 = .ok (.istore_n 2, 1) := dk_61 (dk_at dksX0_findsTurn_1 2 rfl rfl)
theorem dX0_findsTurn_27 : decode cX0_findsTurn 27 = .ok (.aload_n 0, 1) := dk_42 (dk_at dksX0_findsTurn_1 3 rfl rfl)
theorem dX0_findsTurn_28 : decode cX0_findsTurn 28 = .ok (.aload_n 0, 1) := dk_42 (dk_at dksX0_findsTurn_1 4 rfl rfl)
theorem dX0_findsTurn_29 : decode cX0_findsTurn 29 = .ok (.getfield 7, 3) := dk_180 0 7 (dk_at dksX0_findsTurn_1 5 rfl rfl)
theorem dX0_findsTurn_32 : decode cX0_findsTurn 32 = .ok (.iconst 1, 1) := dk_4 (dk_at dksX0_findsTurn_1 8 rfl rfl)
theorem dX0_findsTurn_33 : decode cX0_findsTurn 33 = .ok (.aaload, 1) := dk_50 (dk_at dksX0_findsTurn_1 9 rfl rfl)
theorem dX0_findsTurn_34 : decode cX0_findsTurn 34 = .ok (.iload_n 1, 1) := dk_27 (dk_at dksX0_findsTurn_1 10 rfl rfl)
theorem dX0_findsTurn_35 : decode cX0_findsTurn 35 = .ok (.aaload, 1) := dk_50 (dk_at dksX0_findsTurn_1 11 rfl rfl)
theorem dX0_findsTurn_36 : decode cX0_findsTurn 36 = .ok (.aload_n 0, 1) := dk_42 (dk_at dksX0_findsTurn_1 12 rfl rfl)
theorem dX0_findsTurn_37 : decode cX0_findsTurn 37 = .ok (.getfield 7, 3) := dk_180 0 7 (dk_at dksX0_findsTurn_1 13 rfl rfl)
theorem dX0_findsTurn_40 : decode cX0_findsTurn 40 = .ok (.iconst 1, 1) := dk_4 (dk_at dksX0_findsTurn_1 16 rfl rfl)
theorem dX0_findsTurn_41 : decode cX0_findsTurn 41 = .ok (.aaload, 1) := dk_50 (dk_at dksX0_findsTurn_1 17 rfl rfl)
theorem dX0_findsTurn_42 : decode cX0_findsTurn 42 = .ok (.iload_n 2, 1) := dk_28 (dk_at dksX0_findsTurn_1 18 rfl rfl)
theorem dX0_findsTurn_43 : decode cX0_findsTurn 43 = .ok (.aaload, 1) := dk_50 (dk_at dksX0_findsTurn_1 19 rfl rfl)
theorem dX0_findsTurn_44 : decode cX0_findsTurn 44 = .ok (.aload_n 0, 1) := dk_42 (dk_at dksX0_findsTurn_1 20 rfl rfl)
theorem dX0_findsTurn_45 : decode cX0_findsTurn 45 = .ok (.getfield 249, 3) := dk_180 0 249 (dk_at dksX0_findsTurn_1 21 rfl rfl)
theorem dX0_findsTurn_48 : decode cX0_findsTurn 48 = .ok (.invokevirtual 261, 3) := dk_182 1 5 (dk_at dksX0_findsTurn_2 0 rfl rfl)
theorem dX0_findsTurn_51 : decode cX0_findsTurn 51 = .ok (.istore_n 3, 1) := dk_62 (dk_at dksX0_findsTurn_2 3 rfl rfl)
theorem dX0_findsTurn_52 : decode cX0_findsTurn 52 = .ok (.aload_n 0, 1) := dk_42 (dk_at dksX0_findsTurn_2 4 rfl rfl)
theorem dX0_findsTurn_53 : decode cX0_findsTurn 53 = .ok (.aload_n 0, 1) := dk_42 (dk_at dksX0_findsTurn_2 5 rfl rfl)
theorem dX0_findsTurn_54 : decode cX0_findsTurn 54 = .ok (.aload_n 0, 1) := dk_42 (dk_at dksX0_findsTurn_2 6 rfl rfl)
theorem dX0_findsTurn_55 : decode cX0_findsTurn 55 = .ok (.getfield 7, 3) := dk_180 0 7 (dk_at dksX0_findsTurn_2 7 rfl rfl)
theorem dX0_findsTurn_58 : decode cX0_findsTurn 58 = .ok (.iconst 0, 1) := dk_3 (dk_at dksX0_findsTurn_2 10 rfl rfl)
theorem dX0_findsTurn_59 : decode cX0_findsTurn 59 = .ok (.aaload, 1) := dk_50 (dk_at dksX0_findsTurn_2 11 rfl rfl)
theorem dX0_findsTurn_60 : decode cX0_findsTurn 60 = .ok (.aload_n 0, 1) := dk_42 (dk_at dksX0_findsTurn_2 12 rfl rfl)
theorem dX0_findsTurn_61 : decode cX0_findsTurn 61 = .ok (.getfield 198, 3) := dk_180 0 198 (dk_at dksX0_findsTurn_2 13 rfl rfl)
theorem dX0_findsTurn_64 : decode cX0_findsTurn 64 = .ok (.iload_n 1, 1) := dk_27 (dk_at dksX0_findsTurn_2 16 rfl rfl)
theorem dX0_findsTurn_65 : decode cX0_findsTurn 65 = .ok (.iaload, 1) := dk_46 (dk_at dksX0_findsTurn_2 17 rfl rfl)
theorem dX0_findsTurn_66 : decode cX0_findsTurn 66 = .ok (.aaload, 1) := dk_50 (dk_at dksX0_findsTurn_2 18 rfl rfl)
theorem dX0_findsTurn_67 : decode cX0_findsTurn 67 = .ok (.aload_n 0, 1) := dk_42 (dk_at dksX0_findsTurn_2 19 rfl rfl)
theorem dX0_findsTurn_68 : decode cX0_findsTurn 68 = .ok (.getfield 7, 3) := dk_180 0 7 (dk_at dksX0_findsTurn_2 20 rfl rfl)
theorem dX0_findsTurn_71 : decode cX0_findsTurn 71 = .ok (.iconst 0, 1) := dk_3 (dk_at dksX0_findsTurn_2 23 rfl rfl)
theorem dX0_findsTurn_72 : decode cX0_findsTurn 72 = .ok (.aaload, 1) := dk_50 (dk_at dksX0_findsTurn_3 0 rfl rfl)
theorem dX0_findsTurn_73 : decode cX0_findsTurn 73 = .ok (.aload_n 0, 1) := dk_42 (dk_at dksX0_findsTurn_3 1 rfl rfl)
theorem dX0_findsTurn_74 : decode cX0_findsTurn 74 = .ok (.getfield 198, 3) := dk_180 0 198 (dk_at dksX0_findsTurn_3 2 rfl rfl)
theorem dX0_findsTurn_77 : decode cX0_findsTurn 77 = .ok (.iload_n 2, 1) := dk_28 (dk_at dksX0_findsTurn_3 5 rfl rfl)
theorem dX0_findsTurn_78 : decode cX0_findsTurn 78 = .ok (.iaload, 1) := dk_46 (dk_at dksX0_findsTurn_3 6 rfl rfl)
theorem dX0_findsTurn_79 : decode cX0_findsTurn 79 = .ok (.aaload, 1) := dk_50 (dk_at dksX0_findsTurn_3 7 rfl rfl)
theorem dX0_findsTurn_80 : decode cX0_findsTurn 80 = .ok (.aload_n 0, 1) := dk_42 (dk_at dksX0_findsTurn_3 8 rfl rfl)
theorem dX0_findsTurn_81 : decode cX0_findsTurn 81 = .ok (.getfield 245, 3) := dk_180 0 245 (dk_at dksX0_findsTurn_3 9 rfl rfl)
theorem dX0_findsTurn_84 : decode cX0_findsTurn 84 = .ok (.invokevirtual 261, 3) := dk_182 1 5 (dk_at dksX0_findsTurn_3 12 rfl rfl)
theorem dX0_findsTurn_87 : decode cX0_findsTurn 87 = .ok (.ifCond .eq 11, 3) := dk_153 0 11 (dk_at dksX0_findsTurn_3 15 rfl rfl)
theorem dX0_findsTurn_90 : decode cX0_findsTurn 90 = .ok (.iload_n 3, 1) := dk_29 (dk_at dksX0_findsTurn_3 18 rfl rfl)
theorem dX0_findsTurn_91 : decode cX0_findsTurn 91 = .ok (.ifCond .eq 7, 3) := dk_153 0 7 (dk_at dksX0_findsTurn_3 19 rfl rfl)
theorem dX0_findsTurn_94 : decode cX0_findsTurn 94 = .ok (.iconst 1, 1) := dk_4 (dk_at dksX0_findsTurn_3 22 rfl rfl)
theorem dX0_findsTurn_95 : decode cX0_findsTurn 95 = .ok (.goto 4, 3) := dk_167 0 4 (dk_at dksX0_findsTurn_4 0 rfl rfl)
theorem dX0_findsTurn_98 : decode cX0_findsTurn 98 = .ok (.iconst 0, 1) := dk_3 (dk_at dksX0_findsTurn_4 3 rfl rfl)
theorem dX0_findsTurn_99 : decode cX0_findsTurn 99 = .ok (.putfield 258, 3) := dk_181 1 2 (dk_at dksX0_findsTurn_4 4 rfl rfl)
theorem dX0_findsTurn_102 : decode cX0_findsTurn 102 = .ok (.iconst 0, 1) := dk_3 (dk_at dksX0_findsTurn_4 7 rfl rfl)
theorem dX0_findsTurn_103 : decode cX0_findsTurn 103 = .ok (.istore_n 1, 1) := dk_60 (dk_at dksX0_findsTurn_4 8 rfl rfl)
theorem dX0_findsTurn_104 : decode cX0_findsTurn 104 = .ok (.iload_n 1, 1) := dk_27 (dk_at dksX0_findsTurn_4 9 rfl rfl)
theorem dX0_findsTurn_105 : decode cX0_findsTurn 105 = .ok (.aload_n 0, 1) := dk_42 (dk_at dksX0_findsTurn_4 10 rfl rfl)
theorem dX0_findsTurn_106 : decode cX0_findsTurn 106 = .ok (.getfield 11, 3) := dk_180 0 11 (dk_at dksX0_findsTurn_4 11 rfl rfl)
theorem dX0_findsTurn_109 : decode cX0_findsTurn 109 = .ok (.iconst 0, 1) := dk_3 (dk_at dksX0_findsTurn_4 14 rfl rfl)
theorem dX0_findsTurn_110 : decode cX0_findsTurn 110 = .ok (.iaload, 1) := dk_46 (dk_at dksX0_findsTurn_4 15 rfl rfl)
theorem dX0_findsTurn_111 : decode cX0_findsTurn 111 = .ok (.if_icmp .ge 21, 3) := dk_162 0 21 (dk_at dksX0_findsTurn_4 16 rfl rfl)
theorem dX0_findsTurn_114 : decode cX0_findsTurn 114 = .ok (.aload_n 0, 1) := dk_42 (dk_at dksX0_findsTurn_4 19 rfl rfl)
theorem dX0_findsTurn_115 : decode cX0_findsTurn 115 = .ok (.getfield 258, 3) := dk_180 1 2 (dk_at dksX0_findsTurn_4 20 rfl rfl)
theorem dX0_findsTurn_118 : decode cX0_findsTurn 118 = .ok (.ifCond .eq 14, 3) := dk_153 0 14 (dk_at dksX0_findsTurn_5 0 rfl rfl)
theorem dX0_findsTurn_121 : decode cX0_findsTurn 121 = .ok (.aload_n 0, 1) := dk_42 (dk_at dksX0_findsTurn_5 3 rfl rfl)
theorem dX0_findsTurn_122 : decode cX0_findsTurn 122 = .ok (.iload_n 1, 1) := dk_27 (dk_at dksX0_findsTurn_5 4 rfl rfl)
theorem dX0_findsTurn_123 : decode cX0_findsTurn 123 = .ok (.invokevirtual 265, 3) := dk_182 1 9 (dk_at dksX0_findsTurn_5 5 rfl rfl)
theorem dX0_findsTurn_126 : decode cX0_findsTurn 126 = .ok (.iinc 1 1, 3) := dk_132 1 1 (dk_at dksX0_findsTurn_5 8 rfl rfl)
theorem dX0_findsTurn_129 : decode cX0_findsTurn 129 = .ok (.goto (-25), 3) := dk_167 255 231 (dk_at dksX0_findsTurn_5 11 rfl rfl)
theorem dX0_findsTurn_132 : decode cX0_findsTurn 132 = .ok (.return_, 1) := dk_177 (dk_at dksX0_findsTurn_5 14 rfl rfl)
abbrev cX0_arms : ByteArray := prog_1_method_36_code
def yX0_arms : MethodName := ⟨RX0, "arms", "(LStarTracker$Body;LStarTracker$Body;[[J)Z"⟩
def dkwX0_arms_2 : List UInt8 := [4, 50, 185, 0, 233, 3, 0, 9, 148, 153, 0, 7, 4, 167, 0, 4, 3, 172]
abbrev dktX0_arms_2 : List UInt8 := dkwX0_arms_2 ++ []
def dkwX0_arms_1 : List UInt8 := [50, 184, 0, 225, 45, 3, 50, 45, 4, 50, 45, 5, 50, 184, 0, 225, 42, 180, 0, 229, 45, 4, 50, 45]
abbrev dktX0_arms_1 : List UInt8 := dkwX0_arms_1 ++ dktX0_arms_2
def dkwX0_arms_0 : List UInt8 := [43, 45, 3, 50, 184, 0, 217, 44, 42, 180, 0, 221, 184, 0, 217, 45, 3, 50, 42, 180, 0, 221, 45, 4]
abbrev dktX0_arms_0 : List UInt8 := dkwX0_arms_0 ++ dktX0_arms_1
theorem dksX0_arms_0 : cX0_arms.data.toList.drop 0 = dktX0_arms_0 := by decide +kernel
theorem dksX0_arms_1 : cX0_arms.data.toList.drop 24 = dktX0_arms_1 := dk_seg dksX0_arms_0 24 rfl rfl
theorem dksX0_arms_2 : cX0_arms.data.toList.drop 48 = dktX0_arms_2 := dk_seg dksX0_arms_1 24 rfl rfl
theorem dX0_arms_0 : decode cX0_arms 0 = .ok (.aload_n 1, 1) := dk_43 (dk_at dksX0_arms_0 0 rfl rfl)
theorem dX0_arms_1 : decode cX0_arms 1 = .ok (.aload_n 3, 1) := dk_45 (dk_at dksX0_arms_0 1 rfl rfl)
theorem dX0_arms_2 : decode cX0_arms 2 = .ok (.iconst 0, 1) := dk_3 (dk_at dksX0_arms_0 2 rfl rfl)
theorem dX0_arms_3 : decode cX0_arms 3 = .ok (.aaload, 1) := dk_50 (dk_at dksX0_arms_0 3 rfl rfl)
theorem dX0_arms_4 : decode cX0_arms 4 = .ok (.invokestatic 217, 3) := dk_184 0 217 (dk_at dksX0_arms_0 4 rfl rfl)
theorem dX0_arms_7 : decode cX0_arms 7 = .ok (.aload_n 2, 1) := dk_44 (dk_at dksX0_arms_0 7 rfl rfl)
theorem dX0_arms_8 : decode cX0_arms 8 = .ok (.aload_n 0, 1) := dk_42 (dk_at dksX0_arms_0 8 rfl rfl)
theorem dX0_arms_9 : decode cX0_arms 9 = .ok (.getfield 221, 3) := dk_180 0 221 (dk_at dksX0_arms_0 9 rfl rfl)
theorem dX0_arms_12 : decode cX0_arms 12 = .ok (.invokestatic 217, 3) := dk_184 0 217 (dk_at dksX0_arms_0 12 rfl rfl)
theorem dX0_arms_15 : decode cX0_arms 15 = .ok (.aload_n 3, 1) := dk_45 (dk_at dksX0_arms_0 15 rfl rfl)
theorem dX0_arms_16 : decode cX0_arms 16 = .ok (.iconst 0, 1) := dk_3 (dk_at dksX0_arms_0 16 rfl rfl)
theorem dX0_arms_17 : decode cX0_arms 17 = .ok (.aaload, 1) := dk_50 (dk_at dksX0_arms_0 17 rfl rfl)
theorem dX0_arms_18 : decode cX0_arms 18 = .ok (.aload_n 0, 1) := dk_42 (dk_at dksX0_arms_0 18 rfl rfl)
theorem dX0_arms_19 : decode cX0_arms 19 = .ok (.getfield 221, 3) := dk_180 0 221 (dk_at dksX0_arms_0 19 rfl rfl)
theorem dX0_arms_22 : decode cX0_arms 22 = .ok (.aload_n 3, 1) := dk_45 (dk_at dksX0_arms_0 22 rfl rfl)
theorem dX0_arms_23 : decode cX0_arms 23 = .ok (.iconst 1, 1) := dk_4 (dk_at dksX0_arms_0 23 rfl rfl)
theorem dX0_arms_24 : decode cX0_arms 24 = .ok (.aaload, 1) := dk_50 (dk_at dksX0_arms_1 0 rfl rfl)
theorem dX0_arms_25 : decode cX0_arms 25 = .ok (.invokestatic 225, 3) := dk_184 0 225 (dk_at dksX0_arms_1 1 rfl rfl)
theorem dX0_arms_28 : decode cX0_arms 28 = .ok (.aload_n 3, 1) := dk_45 (dk_at dksX0_arms_1 4 rfl rfl)
theorem dX0_arms_29 : decode cX0_arms 29 = .ok (.iconst 0, 1) := dk_3 (dk_at dksX0_arms_1 5 rfl rfl)
theorem dX0_arms_30 : decode cX0_arms 30 = .ok (.aaload, 1) := dk_50 (dk_at dksX0_arms_1 6 rfl rfl)
theorem dX0_arms_31 : decode cX0_arms 31 = .ok (.aload_n 3, 1) := dk_45 (dk_at dksX0_arms_1 7 rfl rfl)
theorem dX0_arms_32 : decode cX0_arms 32 = .ok (.iconst 1, 1) := dk_4 (dk_at dksX0_arms_1 8 rfl rfl)
theorem dX0_arms_33 : decode cX0_arms 33 = .ok (.aaload, 1) := dk_50 (dk_at dksX0_arms_1 9 rfl rfl)
theorem dX0_arms_34 : decode cX0_arms 34 = .ok (.aload_n 3, 1) := dk_45 (dk_at dksX0_arms_1 10 rfl rfl)
theorem dX0_arms_35 : decode cX0_arms 35 = .ok (.iconst 2, 1) := dk_5 (dk_at dksX0_arms_1 11 rfl rfl)
theorem dX0_arms_36 : decode cX0_arms 36 = .ok (.aaload, 1) := dk_50 (dk_at dksX0_arms_1 12 rfl rfl)
theorem dX0_arms_37 : decode cX0_arms 37 = .ok (.invokestatic 225, 3) := dk_184 0 225 (dk_at dksX0_arms_1 13 rfl rfl)
theorem dX0_arms_40 : decode cX0_arms 40 = .ok (.aload_n 0, 1) := dk_42 (dk_at dksX0_arms_1 16 rfl rfl)
theorem dX0_arms_41 : decode cX0_arms 41 = .ok (.getfield 229, 3) := dk_180 0 229 (dk_at dksX0_arms_1 17 rfl rfl)
theorem dX0_arms_44 : decode cX0_arms 44 = .ok (.aload_n 3, 1) := dk_45 (dk_at dksX0_arms_1 20 rfl rfl)
theorem dX0_arms_45 : decode cX0_arms 45 = .ok (.iconst 1, 1) := dk_4 (dk_at dksX0_arms_1 21 rfl rfl)
theorem dX0_arms_46 : decode cX0_arms 46 = .ok (.aaload, 1) := dk_50 (dk_at dksX0_arms_1 22 rfl rfl)
theorem dX0_arms_47 : decode cX0_arms 47 = .ok (.aload_n 3, 1) := dk_45 (dk_at dksX0_arms_1 23 rfl rfl)
theorem dX0_arms_48 : decode cX0_arms 48 = .ok (.iconst 1, 1) := dk_4 (dk_at dksX0_arms_2 0 rfl rfl)
theorem dX0_arms_49 : decode cX0_arms 49 = .ok (.aaload, 1) := dk_50 (dk_at dksX0_arms_2 1 rfl rfl)
theorem dX0_arms_50 : decode cX0_arms 50 = .ok (.invokeinterface 233 3, 5) := by decide +kernel
theorem dX0_arms_55 : decode cX0_arms 55 = .ok (.lconst 0, 1) := dk_9 (dk_at dksX0_arms_2 7 rfl rfl)
theorem dX0_arms_56 : decode cX0_arms 56 = .ok (.lcmp, 1) := dk_148 (dk_at dksX0_arms_2 8 rfl rfl)
theorem dX0_arms_57 : decode cX0_arms 57 = .ok (.ifCond .eq 7, 3) := dk_153 0 7 (dk_at dksX0_arms_2 9 rfl rfl)
theorem dX0_arms_60 : decode cX0_arms 60 = .ok (.iconst 1, 1) := dk_4 (dk_at dksX0_arms_2 12 rfl rfl)
theorem dX0_arms_61 : decode cX0_arms 61 = .ok (.goto 4, 3) := dk_167 0 4 (dk_at dksX0_arms_2 13 rfl rfl)
theorem dX0_arms_64 : decode cX0_arms 64 = .ok (.iconst 0, 1) := dk_3 (dk_at dksX0_arms_2 16 rfl rfl)
theorem dX0_arms_65 : decode cX0_arms 65 = .ok (.ireturn, 1) := dk_172 (dk_at dksX0_arms_2 17 rfl rfl)
abbrev cX0_lays : ByteArray := prog_1_method_35_code
def yX0_lays : MethodName := ⟨RX0, "lays", "(LStarTracker$Body;[J)V"⟩
def dkwX0_lays_0 : List UInt8 := [3, 61, 28, 6, 162, 0, 18, 43, 28, 42, 28, 182, 0, 50, 133, 80, 132, 2, 1, 167, 255, 239, 177]
abbrev dktX0_lays_0 : List UInt8 := dkwX0_lays_0 ++ []
theorem dksX0_lays_0 : cX0_lays.data.toList.drop 0 = dktX0_lays_0 := by decide +kernel
theorem dX0_lays_0 : decode cX0_lays 0 = .ok (.iconst 0, 1) := dk_3 (dk_at dksX0_lays_0 0 rfl rfl)
theorem dX0_lays_1 : decode cX0_lays 1 = .ok (.istore_n 2, 1) := dk_61 (dk_at dksX0_lays_0 1 rfl rfl)
theorem dX0_lays_2 : decode cX0_lays 2 = .ok (.iload_n 2, 1) := dk_28 (dk_at dksX0_lays_0 2 rfl rfl)
theorem dX0_lays_3 : decode cX0_lays 3 = .ok (.iconst 3, 1) := dk_6 (dk_at dksX0_lays_0 3 rfl rfl)
theorem dX0_lays_4 : decode cX0_lays 4 = .ok (.if_icmp .ge 18, 3) := dk_162 0 18 (dk_at dksX0_lays_0 4 rfl rfl)
theorem dX0_lays_7 : decode cX0_lays 7 = .ok (.aload_n 1, 1) := dk_43 (dk_at dksX0_lays_0 7 rfl rfl)
theorem dX0_lays_8 : decode cX0_lays 8 = .ok (.iload_n 2, 1) := dk_28 (dk_at dksX0_lays_0 8 rfl rfl)
theorem dX0_lays_9 : decode cX0_lays 9 = .ok (.aload_n 0, 1) := dk_42 (dk_at dksX0_lays_0 9 rfl rfl)
theorem dX0_lays_10 : decode cX0_lays 10 = .ok (.iload_n 2, 1) := dk_28 (dk_at dksX0_lays_0 10 rfl rfl)
theorem dX0_lays_11 : decode cX0_lays 11 = .ok (.invokevirtual 50, 3) := dk_182 0 50 (dk_at dksX0_lays_0 11 rfl rfl)
theorem dX0_lays_14 : decode cX0_lays 14 = .ok (.i2l, 1) := dk_133 (dk_at dksX0_lays_0 14 rfl rfl)
theorem dX0_lays_15 : decode cX0_lays 15 = .ok (.lastore, 1) := dk_80 (dk_at dksX0_lays_0 15 rfl rfl)
theorem dX0_lays_16 : decode cX0_lays 16 = .ok (.iinc 2 1, 3) := dk_132 2 1 (dk_at dksX0_lays_0 16 rfl rfl)
theorem dX0_lays_19 : decode cX0_lays 19 = .ok (.goto (-17), 3) := dk_167 255 239 (dk_at dksX0_lays_0 19 rfl rfl)
theorem dX0_lays_22 : decode cX0_lays 22 = .ok (.return_, 1) := dk_177 (dk_at dksX0_lays_0 22 rfl rfl)
abbrev cX0_crosses : ByteArray := prog_1_method_34_code
def yX0_crosses : MethodName := ⟨RX0, "crosses", "([J[J[J)V"⟩
def dkwX0_crosses_2 : List UInt8 := [167, 255, 212, 177]
abbrev dktX0_crosses_2 : List UInt8 := dkwX0_crosses_2 ++ []
def dkwX0_crosses_1 : List UInt8 := [21, 4, 47, 43, 21, 5, 47, 105, 42, 21, 5, 47, 43, 21, 4, 47, 105, 101, 80, 132, 3, 1]
abbrev dktX0_crosses_1 : List UInt8 := dkwX0_crosses_1 ++ dktX0_crosses_2
def dkwX0_crosses_0 : List UInt8 := [3, 62, 29, 6, 162, 0, 45, 29, 4, 96, 6, 112, 54, 4, 29, 5, 96, 6, 112, 54, 5, 44, 29, 42]
abbrev dktX0_crosses_0 : List UInt8 := dkwX0_crosses_0 ++ dktX0_crosses_1
theorem dksX0_crosses_0 : cX0_crosses.data.toList.drop 0 = dktX0_crosses_0 := by decide +kernel
theorem dksX0_crosses_1 : cX0_crosses.data.toList.drop 24 = dktX0_crosses_1 := dk_seg dksX0_crosses_0 24 rfl rfl
theorem dksX0_crosses_2 : cX0_crosses.data.toList.drop 46 = dktX0_crosses_2 := dk_seg dksX0_crosses_1 22 rfl rfl
theorem dX0_crosses_0 : decode cX0_crosses 0 = .ok (.iconst 0, 1) := dk_3 (dk_at dksX0_crosses_0 0 rfl rfl)
theorem dX0_crosses_1 : decode cX0_crosses 1 = .ok (.istore_n 3, 1) := dk_62 (dk_at dksX0_crosses_0 1 rfl rfl)
theorem dX0_crosses_2 : decode cX0_crosses 2 = .ok (.iload_n 3, 1) := dk_29 (dk_at dksX0_crosses_0 2 rfl rfl)
theorem dX0_crosses_3 : decode cX0_crosses 3 = .ok (.iconst 3, 1) := dk_6 (dk_at dksX0_crosses_0 3 rfl rfl)
theorem dX0_crosses_4 : decode cX0_crosses 4 = .ok (.if_icmp .ge 45, 3) := dk_162 0 45 (dk_at dksX0_crosses_0 4 rfl rfl)
theorem dX0_crosses_7 : decode cX0_crosses 7 = .ok (.iload_n 3, 1) := dk_29 (dk_at dksX0_crosses_0 7 rfl rfl)
theorem dX0_crosses_8 : decode cX0_crosses 8 = .ok (.iconst 1, 1) := dk_4 (dk_at dksX0_crosses_0 8 rfl rfl)
theorem dX0_crosses_9 : decode cX0_crosses 9 = .ok (.iadd, 1) := dk_96 (dk_at dksX0_crosses_0 9 rfl rfl)
theorem dX0_crosses_10 : decode cX0_crosses 10 = .ok (.iconst 3, 1) := dk_6 (dk_at dksX0_crosses_0 10 rfl rfl)
theorem dX0_crosses_11 : decode cX0_crosses 11 = .ok (.irem, 1) := dk_112 (dk_at dksX0_crosses_0 11 rfl rfl)
theorem dX0_crosses_12 : decode cX0_crosses 12 = .ok (.istore 4, 2) := dk_54 4 (dk_at dksX0_crosses_0 12 rfl rfl)
theorem dX0_crosses_14 : decode cX0_crosses 14 = .ok (.iload_n 3, 1) := dk_29 (dk_at dksX0_crosses_0 14 rfl rfl)
theorem dX0_crosses_15 : decode cX0_crosses 15 = .ok (.iconst 2, 1) := dk_5 (dk_at dksX0_crosses_0 15 rfl rfl)
theorem dX0_crosses_16 : decode cX0_crosses 16 = .ok (.iadd, 1) := dk_96 (dk_at dksX0_crosses_0 16 rfl rfl)
theorem dX0_crosses_17 : decode cX0_crosses 17 = .ok (.iconst 3, 1) := dk_6 (dk_at dksX0_crosses_0 17 rfl rfl)
theorem dX0_crosses_18 : decode cX0_crosses 18 = .ok (.irem, 1) := dk_112 (dk_at dksX0_crosses_0 18 rfl rfl)
theorem dX0_crosses_19 : decode cX0_crosses 19 = .ok (.istore 5, 2) := dk_54 5 (dk_at dksX0_crosses_0 19 rfl rfl)
theorem dX0_crosses_21 : decode cX0_crosses 21 = .ok (.aload_n 2, 1) := dk_44 (dk_at dksX0_crosses_0 21 rfl rfl)
theorem dX0_crosses_22 : decode cX0_crosses 22 = .ok (.iload_n 3, 1) := dk_29 (dk_at dksX0_crosses_0 22 rfl rfl)
theorem dX0_crosses_23 : decode cX0_crosses 23 = .ok (.aload_n 0, 1) := dk_42 (dk_at dksX0_crosses_0 23 rfl rfl)
theorem dX0_crosses_24 : decode cX0_crosses 24 = .ok (.iload 4, 2) := dk_21 4 (dk_at dksX0_crosses_1 0 rfl rfl)
theorem dX0_crosses_26 : decode cX0_crosses 26 = .ok (.laload, 1) := dk_47 (dk_at dksX0_crosses_1 2 rfl rfl)
theorem dX0_crosses_27 : decode cX0_crosses 27 = .ok (.aload_n 1, 1) := dk_43 (dk_at dksX0_crosses_1 3 rfl rfl)
theorem dX0_crosses_28 : decode cX0_crosses 28 = .ok (.iload 5, 2) := dk_21 5 (dk_at dksX0_crosses_1 4 rfl rfl)
theorem dX0_crosses_30 : decode cX0_crosses 30 = .ok (.laload, 1) := dk_47 (dk_at dksX0_crosses_1 6 rfl rfl)
theorem dX0_crosses_31 : decode cX0_crosses 31 = .ok (.lmul, 1) := dk_105 (dk_at dksX0_crosses_1 7 rfl rfl)
theorem dX0_crosses_32 : decode cX0_crosses 32 = .ok (.aload_n 0, 1) := dk_42 (dk_at dksX0_crosses_1 8 rfl rfl)
theorem dX0_crosses_33 : decode cX0_crosses 33 = .ok (.iload 5, 2) := dk_21 5 (dk_at dksX0_crosses_1 9 rfl rfl)
theorem dX0_crosses_35 : decode cX0_crosses 35 = .ok (.laload, 1) := dk_47 (dk_at dksX0_crosses_1 11 rfl rfl)
theorem dX0_crosses_36 : decode cX0_crosses 36 = .ok (.aload_n 1, 1) := dk_43 (dk_at dksX0_crosses_1 12 rfl rfl)
theorem dX0_crosses_37 : decode cX0_crosses 37 = .ok (.iload 4, 2) := dk_21 4 (dk_at dksX0_crosses_1 13 rfl rfl)
theorem dX0_crosses_39 : decode cX0_crosses 39 = .ok (.laload, 1) := dk_47 (dk_at dksX0_crosses_1 15 rfl rfl)
theorem dX0_crosses_40 : decode cX0_crosses 40 = .ok (.lmul, 1) := dk_105 (dk_at dksX0_crosses_1 16 rfl rfl)
theorem dX0_crosses_41 : decode cX0_crosses 41 = .ok (.lsub, 1) := dk_101 (dk_at dksX0_crosses_1 17 rfl rfl)
theorem dX0_crosses_42 : decode cX0_crosses 42 = .ok (.lastore, 1) := dk_80 (dk_at dksX0_crosses_1 18 rfl rfl)
theorem dX0_crosses_43 : decode cX0_crosses 43 = .ok (.iinc 3 1, 3) := dk_132 3 1 (dk_at dksX0_crosses_1 19 rfl rfl)
theorem dX0_crosses_46 : decode cX0_crosses 46 = .ok (.goto (-44), 3) := dk_167 255 212 (dk_at dksX0_crosses_2 0 rfl rfl)
theorem dX0_crosses_49 : decode cX0_crosses 49 = .ok (.return_, 1) := dk_177 (dk_at dksX0_crosses_2 3 rfl rfl)
abbrev cX0_findsPlace : ByteArray := prog_1_method_38_code
def yX0_findsPlace : MethodName := ⟨RX0, "findsPlace", "(I)V"⟩
def dkwX0_findsPlace_8 : List UInt8 := [132, 6, 1, 167, 255, 132, 177]
abbrev dktX0_findsPlace_8 : List UInt8 := dkwX0_findsPlace_8 ++ []
def dkwX0_findsPlace_7 : List UInt8 := [97, 55, 7, 42, 180, 0, 252, 27, 50, 21, 6, 22, 7, 32, 22, 4, 105, 184, 0, 255, 136, 79]
abbrev dktX0_findsPlace_7 : List UInt8 := dkwX0_findsPlace_7 ++ dktX0_findsPlace_8
def dkwX0_findsPlace_6 : List UInt8 := [180, 0, 221, 42, 180, 0, 245, 5, 50, 185, 0, 233, 3, 0, 42, 180, 0, 249, 5, 50, 21, 6, 47, 105]
abbrev dktX0_findsPlace_6 : List UInt8 := dkwX0_findsPlace_6 ++ dktX0_findsPlace_7
def dkwX0_findsPlace_5 : List UInt8 := [185, 0, 233, 3, 0, 42, 180, 0, 249, 4, 50, 21, 6, 47, 105, 32, 105, 97, 42, 180, 0, 229, 42]
abbrev dktX0_findsPlace_5 : List UInt8 := dkwX0_findsPlace_5 ++ dktX0_findsPlace_6
def dkwX0_findsPlace_4 : List UInt8 := [21, 6, 47, 105, 22, 4, 105, 42, 180, 0, 229, 42, 180, 0, 221, 42, 180, 0, 245, 4, 50]
abbrev dktX0_findsPlace_4 : List UInt8 := dkwX0_findsPlace_4 ++ dktX0_findsPlace_5
def dkwX0_findsPlace_3 : List UInt8 := [180, 0, 229, 42, 180, 0, 221, 42, 180, 0, 245, 3, 50, 185, 0, 233, 3, 0, 42, 180, 0, 249, 3, 50]
abbrev dktX0_findsPlace_3 : List UInt8 := dkwX0_findsPlace_3 ++ dktX0_findsPlace_4
def dkwX0_findsPlace_2 : List UInt8 := [180, 0, 245, 4, 50, 185, 0, 233, 3, 0, 55, 4, 3, 54, 6, 21, 6, 6, 162, 0, 124, 42]
abbrev dktX0_findsPlace_2 : List UInt8 := dkwX0_findsPlace_2 ++ dktX0_findsPlace_3
def dkwX0_findsPlace_1 : List UInt8 := [50, 42, 180, 0, 245, 3, 50, 185, 0, 233, 3, 0, 65, 42, 180, 0, 229, 42, 180, 0, 245, 4, 50, 42]
abbrev dktX0_findsPlace_1 : List UInt8 := dkwX0_findsPlace_1 ++ dktX0_findsPlace_2
def dkwX0_findsPlace_0 : List UInt8 := [42, 180, 0, 7, 3, 50, 27, 50, 42, 180, 0, 221, 184, 0, 217, 42, 180, 0, 229, 42, 180, 0, 245, 3]
abbrev dktX0_findsPlace_0 : List UInt8 := dkwX0_findsPlace_0 ++ dktX0_findsPlace_1
theorem dksX0_findsPlace_0 : cX0_findsPlace.data.toList.drop 0 = dktX0_findsPlace_0 := by decide +kernel
theorem dksX0_findsPlace_1 : cX0_findsPlace.data.toList.drop 24 = dktX0_findsPlace_1 := dk_seg dksX0_findsPlace_0 24 rfl rfl
theorem dksX0_findsPlace_2 : cX0_findsPlace.data.toList.drop 48 = dktX0_findsPlace_2 := dk_seg dksX0_findsPlace_1 24 rfl rfl
theorem dksX0_findsPlace_3 : cX0_findsPlace.data.toList.drop 70 = dktX0_findsPlace_3 := dk_seg dksX0_findsPlace_2 22 rfl rfl
theorem dksX0_findsPlace_4 : cX0_findsPlace.data.toList.drop 94 = dktX0_findsPlace_4 := dk_seg dksX0_findsPlace_3 24 rfl rfl
theorem dksX0_findsPlace_5 : cX0_findsPlace.data.toList.drop 115 = dktX0_findsPlace_5 := dk_seg dksX0_findsPlace_4 21 rfl rfl
theorem dksX0_findsPlace_6 : cX0_findsPlace.data.toList.drop 138 = dktX0_findsPlace_6 := dk_seg dksX0_findsPlace_5 23 rfl rfl
theorem dksX0_findsPlace_7 : cX0_findsPlace.data.toList.drop 162 = dktX0_findsPlace_7 := dk_seg dksX0_findsPlace_6 24 rfl rfl
theorem dksX0_findsPlace_8 : cX0_findsPlace.data.toList.drop 184 = dktX0_findsPlace_8 := dk_seg dksX0_findsPlace_7 22 rfl rfl
theorem dX0_findsPlace_0 : decode cX0_findsPlace 0 = .ok (.aload_n 0, 1) := dk_42 (dk_at dksX0_findsPlace_0 0 rfl rfl)
theorem dX0_findsPlace_1 : decode cX0_findsPlace 1 = .ok (.getfield 7, 3) := dk_180 0 7 (dk_at dksX0_findsPlace_0 1 rfl rfl)
theorem dX0_findsPlace_4 : decode cX0_findsPlace 4 = .ok (.iconst 0, 1) := dk_3 (dk_at dksX0_findsPlace_0 4 rfl rfl)
theorem dX0_findsPlace_5 : decode cX0_findsPlace 5 = .ok (.aaload, 1) := dk_50 (dk_at dksX0_findsPlace_0 5 rfl rfl)
theorem dX0_findsPlace_6 : decode cX0_findsPlace 6 = .ok (.iload_n 1, 1) := dk_27 (dk_at dksX0_findsPlace_0 6 rfl rfl)
theorem dX0_findsPlace_7 : decode cX0_findsPlace 7 = .ok (.aaload, 1) := dk_50 (dk_at dksX0_findsPlace_0 7 rfl rfl)
theorem dX0_findsPlace_8 : decode cX0_findsPlace 8 = .ok (.aload_n 0, 1) := dk_42 (dk_at dksX0_findsPlace_0 8 rfl rfl)
theorem dX0_findsPlace_9 : decode cX0_findsPlace 9 = .ok (.getfield 221, 3) := dk_180 0 221 (dk_at dksX0_findsPlace_0 9 rfl rfl)
theorem dX0_findsPlace_12 : decode cX0_findsPlace 12 = .ok (.invokestatic 217, 3) := dk_184 0 217 (dk_at dksX0_findsPlace_0 12 rfl rfl)
theorem dX0_findsPlace_15 : decode cX0_findsPlace 15 = .ok (.aload_n 0, 1) := dk_42 (dk_at dksX0_findsPlace_0 15 rfl rfl)
theorem dX0_findsPlace_16 : decode cX0_findsPlace 16 = .ok (.getfield 229, 3) := dk_180 0 229 (dk_at dksX0_findsPlace_0 16 rfl rfl)
theorem dX0_findsPlace_19 : decode cX0_findsPlace 19 = .ok (.aload_n 0, 1) := dk_42 (dk_at dksX0_findsPlace_0 19 rfl rfl)
theorem dX0_findsPlace_20 : decode cX0_findsPlace 20 = .ok (.getfield 245, 3) := dk_180 0 245 (dk_at dksX0_findsPlace_0 20 rfl rfl)
theorem dX0_findsPlace_23 : decode cX0_findsPlace 23 = .ok (.iconst 0, 1) := dk_3 (dk_at dksX0_findsPlace_0 23 rfl rfl)
theorem dX0_findsPlace_24 : decode cX0_findsPlace 24 = .ok (.aaload, 1) := dk_50 (dk_at dksX0_findsPlace_1 0 rfl rfl)
theorem dX0_findsPlace_25 : decode cX0_findsPlace 25 = .ok (.aload_n 0, 1) := dk_42 (dk_at dksX0_findsPlace_1 1 rfl rfl)
theorem dX0_findsPlace_26 : decode cX0_findsPlace 26 = .ok (.getfield 245, 3) := dk_180 0 245 (dk_at dksX0_findsPlace_1 2 rfl rfl)
theorem dX0_findsPlace_29 : decode cX0_findsPlace 29 = .ok (.iconst 0, 1) := dk_3 (dk_at dksX0_findsPlace_1 5 rfl rfl)
theorem dX0_findsPlace_30 : decode cX0_findsPlace 30 = .ok (.aaload, 1) := dk_50 (dk_at dksX0_findsPlace_1 6 rfl rfl)
theorem dX0_findsPlace_31 : decode cX0_findsPlace 31 = .ok (.invokeinterface 233 3, 5) := by decide +kernel
theorem dX0_findsPlace_36 : decode cX0_findsPlace 36 = .ok (.lstore_n 2, 1) := dk_65 (dk_at dksX0_findsPlace_1 12 rfl rfl)
theorem dX0_findsPlace_37 : decode cX0_findsPlace 37 = .ok (.aload_n 0, 1) := dk_42 (dk_at dksX0_findsPlace_1 13 rfl rfl)
theorem dX0_findsPlace_38 : decode cX0_findsPlace 38 = .ok (.getfield 229, 3) := dk_180 0 229 (dk_at dksX0_findsPlace_1 14 rfl rfl)
theorem dX0_findsPlace_41 : decode cX0_findsPlace 41 = .ok (.aload_n 0, 1) := dk_42 (dk_at dksX0_findsPlace_1 17 rfl rfl)
theorem dX0_findsPlace_42 : decode cX0_findsPlace 42 = .ok (.getfield 245, 3) := dk_180 0 245 (dk_at dksX0_findsPlace_1 18 rfl rfl)
theorem dX0_findsPlace_45 : decode cX0_findsPlace 45 = .ok (.iconst 1, 1) := dk_4 (dk_at dksX0_findsPlace_1 21 rfl rfl)
theorem dX0_findsPlace_46 : decode cX0_findsPlace 46 = .ok (.aaload, 1) := dk_50 (dk_at dksX0_findsPlace_1 22 rfl rfl)
theorem dX0_findsPlace_47 : decode cX0_findsPlace 47 = .ok (.aload_n 0, 1) := dk_42 (dk_at dksX0_findsPlace_1 23 rfl rfl)
theorem dX0_findsPlace_48 : decode cX0_findsPlace 48 = .ok (.getfield 245, 3) := dk_180 0 245 (dk_at dksX0_findsPlace_2 0 rfl rfl)
theorem dX0_findsPlace_51 : decode cX0_findsPlace 51 = .ok (.iconst 1, 1) := dk_4 (dk_at dksX0_findsPlace_2 3 rfl rfl)
theorem dX0_findsPlace_52 : decode cX0_findsPlace 52 = .ok (.aaload, 1) := dk_50 (dk_at dksX0_findsPlace_2 4 rfl rfl)
theorem dX0_findsPlace_53 : decode cX0_findsPlace 53 = .ok (.invokeinterface 233 3, 5) := by decide +kernel
theorem dX0_findsPlace_58 : decode cX0_findsPlace 58 = .ok (.lstore 4, 2) := dk_55 4 (dk_at dksX0_findsPlace_2 10 rfl rfl)
theorem dX0_findsPlace_60 : decode cX0_findsPlace 60 = .ok (.iconst 0, 1) := dk_3 (dk_at dksX0_findsPlace_2 12 rfl rfl)
theorem dX0_findsPlace_61 : decode cX0_findsPlace 61 = .ok (.istore 6, 2) := dk_54 6 (dk_at dksX0_findsPlace_2 13 rfl rfl)
theorem dX0_findsPlace_63 : decode cX0_findsPlace 63 = .ok (.iload 6, 2) := dk_21 6 (dk_at dksX0_findsPlace_2 15 rfl rfl)
theorem dX0_findsPlace_65 : decode cX0_findsPlace 65 = .ok (.iconst 3, 1) := dk_6 (dk_at dksX0_findsPlace_2 17 rfl rfl)
theorem dX0_findsPlace_66 : decode cX0_findsPlace 66 = .ok (.if_icmp .ge 124, 3) := dk_162 0 124 (dk_at dksX0_findsPlace_2 18 rfl rfl)
theorem dX0_findsPlace_69 : decode cX0_findsPlace 69 = .ok (.aload_n 0, 1) := dk_42 (dk_at dksX0_findsPlace_2 21 rfl rfl)
theorem dX0_findsPlace_70 : decode cX0_findsPlace 70 = .ok (.getfield 229, 3) := dk_180 0 229 (dk_at dksX0_findsPlace_3 0 rfl rfl)
theorem dX0_findsPlace_73 : decode cX0_findsPlace 73 = .ok (.aload_n 0, 1) := dk_42 (dk_at dksX0_findsPlace_3 3 rfl rfl)
theorem dX0_findsPlace_74 : decode cX0_findsPlace 74 = .ok (.getfield 221, 3) := dk_180 0 221 (dk_at dksX0_findsPlace_3 4 rfl rfl)
theorem dX0_findsPlace_77 : decode cX0_findsPlace 77 = .ok (.aload_n 0, 1) := dk_42 (dk_at dksX0_findsPlace_3 7 rfl rfl)
theorem dX0_findsPlace_78 : decode cX0_findsPlace 78 = .ok (.getfield 245, 3) := dk_180 0 245 (dk_at dksX0_findsPlace_3 8 rfl rfl)
theorem dX0_findsPlace_81 : decode cX0_findsPlace 81 = .ok (.iconst 0, 1) := dk_3 (dk_at dksX0_findsPlace_3 11 rfl rfl)
theorem dX0_findsPlace_82 : decode cX0_findsPlace 82 = .ok (.aaload, 1) := dk_50 (dk_at dksX0_findsPlace_3 12 rfl rfl)
theorem dX0_findsPlace_83 : decode cX0_findsPlace 83 = .ok (.invokeinterface 233 3, 5) := by decide +kernel
theorem dX0_findsPlace_88 : decode cX0_findsPlace 88 = .ok (.aload_n 0, 1) := dk_42 (dk_at dksX0_findsPlace_3 18 rfl rfl)
theorem dX0_findsPlace_89 : decode cX0_findsPlace 89 = .ok (.getfield 249, 3) := dk_180 0 249 (dk_at dksX0_findsPlace_3 19 rfl rfl)
theorem dX0_findsPlace_92 : decode cX0_findsPlace 92 = .ok (.iconst 0, 1) := dk_3 (dk_at dksX0_findsPlace_3 22 rfl rfl)
theorem dX0_findsPlace_93 : decode cX0_findsPlace 93 = .ok (.aaload, 1) := dk_50 (dk_at dksX0_findsPlace_3 23 rfl rfl)
theorem dX0_findsPlace_94 : decode cX0_findsPlace 94 = .ok (.iload 6, 2) := dk_21 6 (dk_at dksX0_findsPlace_4 0 rfl rfl)
theorem dX0_findsPlace_96 : decode cX0_findsPlace 96 = .ok (.laload, 1) := dk_47 (dk_at dksX0_findsPlace_4 2 rfl rfl)
theorem dX0_findsPlace_97 : decode cX0_findsPlace 97 = .ok (.lmul, 1) := dk_105 (dk_at dksX0_findsPlace_4 3 rfl rfl)
theorem dX0_findsPlace_98 : decode cX0_findsPlace 98 = .ok (.lload 4, 2) := dk_22 4 (dk_at dksX0_findsPlace_4 4 rfl rfl)
theorem dX0_findsPlace_100 : decode cX0_findsPlace 100 = .ok (.lmul, 1) := dk_105 (dk_at dksX0_findsPlace_4 6 rfl rfl)
theorem dX0_findsPlace_101 : decode cX0_findsPlace 101 = .ok (.aload_n 0, 1) := dk_42 (dk_at dksX0_findsPlace_4 7 rfl rfl)
theorem dX0_findsPlace_102 : decode cX0_findsPlace 102 = .ok (.getfield 229, 3) := dk_180 0 229 (dk_at dksX0_findsPlace_4 8 rfl rfl)
theorem dX0_findsPlace_105 : decode cX0_findsPlace 105 = .ok (.aload_n 0, 1) := dk_42 (dk_at dksX0_findsPlace_4 11 rfl rfl)
theorem dX0_findsPlace_106 : decode cX0_findsPlace 106 = .ok (.getfield 221, 3) := dk_180 0 221 (dk_at dksX0_findsPlace_4 12 rfl rfl)
theorem dX0_findsPlace_109 : decode cX0_findsPlace 109 = .ok (.aload_n 0, 1) := dk_42 (dk_at dksX0_findsPlace_4 15 rfl rfl)
theorem dX0_findsPlace_110 : decode cX0_findsPlace 110 = .ok (.getfield 245, 3) := dk_180 0 245 (dk_at dksX0_findsPlace_4 16 rfl rfl)
theorem dX0_findsPlace_113 : decode cX0_findsPlace 113 = .ok (.iconst 1, 1) := dk_4 (dk_at dksX0_findsPlace_4 19 rfl rfl)
theorem dX0_findsPlace_114 : decode cX0_findsPlace 114 = .ok (.aaload, 1) := dk_50 (dk_at dksX0_findsPlace_4 20 rfl rfl)
theorem dX0_findsPlace_115 : decode cX0_findsPlace 115 = .ok (.invokeinterface 233 3, 5) := by decide +kernel
theorem dX0_findsPlace_120 : decode cX0_findsPlace 120 = .ok (.aload_n 0, 1) := dk_42 (dk_at dksX0_findsPlace_5 5 rfl rfl)
theorem dX0_findsPlace_121 : decode cX0_findsPlace 121 = .ok (.getfield 249, 3) := dk_180 0 249 (dk_at dksX0_findsPlace_5 6 rfl rfl)
theorem dX0_findsPlace_124 : decode cX0_findsPlace 124 = .ok (.iconst 1, 1) := dk_4 (dk_at dksX0_findsPlace_5 9 rfl rfl)
theorem dX0_findsPlace_125 : decode cX0_findsPlace 125 = .ok (.aaload, 1) := dk_50 (dk_at dksX0_findsPlace_5 10 rfl rfl)
theorem dX0_findsPlace_126 : decode cX0_findsPlace 126 = .ok (.iload 6, 2) := dk_21 6 (dk_at dksX0_findsPlace_5 11 rfl rfl)
theorem dX0_findsPlace_128 : decode cX0_findsPlace 128 = .ok (.laload, 1) := dk_47 (dk_at dksX0_findsPlace_5 13 rfl rfl)
theorem dX0_findsPlace_129 : decode cX0_findsPlace 129 = .ok (.lmul, 1) := dk_105 (dk_at dksX0_findsPlace_5 14 rfl rfl)
theorem dX0_findsPlace_130 : decode cX0_findsPlace 130 = .ok (.lload_n 2, 1) := dk_32 (dk_at dksX0_findsPlace_5 15 rfl rfl)
theorem dX0_findsPlace_131 : decode cX0_findsPlace 131 = .ok (.lmul, 1) := dk_105 (dk_at dksX0_findsPlace_5 16 rfl rfl)
theorem dX0_findsPlace_132 : decode cX0_findsPlace 132 = .ok (.ladd, 1) := dk_97 (dk_at dksX0_findsPlace_5 17 rfl rfl)
theorem dX0_findsPlace_133 : decode cX0_findsPlace 133 = .ok (.aload_n 0, 1) := dk_42 (dk_at dksX0_findsPlace_5 18 rfl rfl)
theorem dX0_findsPlace_134 : decode cX0_findsPlace 134 = .ok (.getfield 229, 3) := dk_180 0 229 (dk_at dksX0_findsPlace_5 19 rfl rfl)
theorem dX0_findsPlace_137 : decode cX0_findsPlace 137 = .ok (.aload_n 0, 1) := dk_42 (dk_at dksX0_findsPlace_5 22 rfl rfl)
theorem dX0_findsPlace_138 : decode cX0_findsPlace 138 = .ok (.getfield 221, 3) := dk_180 0 221 (dk_at dksX0_findsPlace_6 0 rfl rfl)
theorem dX0_findsPlace_141 : decode cX0_findsPlace 141 = .ok (.aload_n 0, 1) := dk_42 (dk_at dksX0_findsPlace_6 3 rfl rfl)
theorem dX0_findsPlace_142 : decode cX0_findsPlace 142 = .ok (.getfield 245, 3) := dk_180 0 245 (dk_at dksX0_findsPlace_6 4 rfl rfl)
theorem dX0_findsPlace_145 : decode cX0_findsPlace 145 = .ok (.iconst 2, 1) := dk_5 (dk_at dksX0_findsPlace_6 7 rfl rfl)
theorem dX0_findsPlace_146 : decode cX0_findsPlace 146 = .ok (.aaload, 1) := dk_50 (dk_at dksX0_findsPlace_6 8 rfl rfl)
theorem dX0_findsPlace_147 : decode cX0_findsPlace 147 = .ok (.invokeinterface 233 3, 5) := by decide +kernel
theorem dX0_findsPlace_152 : decode cX0_findsPlace 152 = .ok (.aload_n 0, 1) := dk_42 (dk_at dksX0_findsPlace_6 14 rfl rfl)
theorem dX0_findsPlace_153 : decode cX0_findsPlace 153 = .ok (.getfield 249, 3) := dk_180 0 249 (dk_at dksX0_findsPlace_6 15 rfl rfl)
theorem dX0_findsPlace_156 : decode cX0_findsPlace 156 = .ok (.iconst 2, 1) := dk_5 (dk_at dksX0_findsPlace_6 18 rfl rfl)
theorem dX0_findsPlace_157 : decode cX0_findsPlace 157 = .ok (.aaload, 1) := dk_50 (dk_at dksX0_findsPlace_6 19 rfl rfl)
theorem dX0_findsPlace_158 : decode cX0_findsPlace 158 = .ok (.iload 6, 2) := dk_21 6 (dk_at dksX0_findsPlace_6 20 rfl rfl)
theorem dX0_findsPlace_160 : decode cX0_findsPlace 160 = .ok (.laload, 1) := dk_47 (dk_at dksX0_findsPlace_6 22 rfl rfl)
theorem dX0_findsPlace_161 : decode cX0_findsPlace 161 = .ok (.lmul, 1) := dk_105 (dk_at dksX0_findsPlace_6 23 rfl rfl)
theorem dX0_findsPlace_162 : decode cX0_findsPlace 162 = .ok (.ladd, 1) := dk_97 (dk_at dksX0_findsPlace_7 0 rfl rfl)
theorem dX0_findsPlace_163 : decode cX0_findsPlace 163 = .ok (.lstore 7, 2) := dk_55 7 (dk_at dksX0_findsPlace_7 1 rfl rfl)
theorem dX0_findsPlace_165 : decode cX0_findsPlace 165 = .ok (.aload_n 0, 1) := dk_42 (dk_at dksX0_findsPlace_7 3 rfl rfl)
theorem dX0_findsPlace_166 : decode cX0_findsPlace 166 = .ok (.getfield 252, 3) := dk_180 0 252 (dk_at dksX0_findsPlace_7 4 rfl rfl)
theorem dX0_findsPlace_169 : decode cX0_findsPlace 169 = .ok (.iload_n 1, 1) := dk_27 (dk_at dksX0_findsPlace_7 7 rfl rfl)
theorem dX0_findsPlace_170 : decode cX0_findsPlace 170 = .ok (.aaload, 1) := dk_50 (dk_at dksX0_findsPlace_7 8 rfl rfl)
theorem dX0_findsPlace_171 : decode cX0_findsPlace 171 = .ok (.iload 6, 2) := dk_21 6 (dk_at dksX0_findsPlace_7 9 rfl rfl)
theorem dX0_findsPlace_173 : decode cX0_findsPlace 173 = .ok (.lload 7, 2) := dk_22 7 (dk_at dksX0_findsPlace_7 11 rfl rfl)
theorem dX0_findsPlace_175 : decode cX0_findsPlace 175 = .ok (.lload_n 2, 1) := dk_32 (dk_at dksX0_findsPlace_7 13 rfl rfl)
theorem dX0_findsPlace_176 : decode cX0_findsPlace 176 = .ok (.lload 4, 2) := dk_22 4 (dk_at dksX0_findsPlace_7 14 rfl rfl)
theorem dX0_findsPlace_178 : decode cX0_findsPlace 178 = .ok (.lmul, 1) := dk_105 (dk_at dksX0_findsPlace_7 16 rfl rfl)
theorem dX0_findsPlace_179 : decode cX0_findsPlace 179 = .ok (.invokestatic 255, 3) := dk_184 0 255 (dk_at dksX0_findsPlace_7 17 rfl rfl)
theorem dX0_findsPlace_182 : decode cX0_findsPlace 182 = .ok (.l2i, 1) := dk_136 (dk_at dksX0_findsPlace_7 20 rfl rfl)
theorem dX0_findsPlace_183 : decode cX0_findsPlace 183 = .ok (.iastore, 1) := dk_79 (dk_at dksX0_findsPlace_7 21 rfl rfl)
theorem dX0_findsPlace_184 : decode cX0_findsPlace 184 = .ok (.iinc 6 1, 3) := dk_132 6 1 (dk_at dksX0_findsPlace_8 0 rfl rfl)
theorem dX0_findsPlace_187 : decode cX0_findsPlace 187 = .ok (.goto (-124), 3) := dk_167 255 132 (dk_at dksX0_findsPlace_8 3 rfl rfl)
theorem dX0_findsPlace_190 : decode cX0_findsPlace 190 = .ok (.return_, 1) := dk_177 (dk_at dksX0_findsPlace_8 6 rfl rfl)
abbrev cX0_rounded : ByteArray := prog_1_method_37_code
def yX0_rounded : MethodName := ⟨RX0, "rounded", "(JJ)J"⟩
def dkwX0_rounded_0 : List UInt8 := [20, 0, 239, 30, 105, 32, 97, 20, 0, 239, 32, 105, 184, 0, 241, 173]
abbrev dktX0_rounded_0 : List UInt8 := dkwX0_rounded_0 ++ []
theorem dksX0_rounded_0 : cX0_rounded.data.toList.drop 0 = dktX0_rounded_0 := by decide +kernel
theorem dX0_rounded_0 : decode cX0_rounded 0 = .ok (.ldc2_w 239, 3) := dk_20 0 239 (dk_at dksX0_rounded_0 0 rfl rfl)
theorem dX0_rounded_3 : decode cX0_rounded 3 = .ok (.lload_n 0, 1) := dk_30 (dk_at dksX0_rounded_0 3 rfl rfl)
theorem dX0_rounded_4 : decode cX0_rounded 4 = .ok (.lmul, 1) := dk_105 (dk_at dksX0_rounded_0 4 rfl rfl)
theorem dX0_rounded_5 : decode cX0_rounded 5 = .ok (.lload_n 2, 1) := dk_32 (dk_at dksX0_rounded_0 5 rfl rfl)
theorem dX0_rounded_6 : decode cX0_rounded 6 = .ok (.ladd, 1) := dk_97 (dk_at dksX0_rounded_0 6 rfl rfl)
theorem dX0_rounded_7 : decode cX0_rounded 7 = .ok (.ldc2_w 239, 3) := dk_20 0 239 (dk_at dksX0_rounded_0 7 rfl rfl)
theorem dX0_rounded_10 : decode cX0_rounded 10 = .ok (.lload_n 2, 1) := dk_32 (dk_at dksX0_rounded_0 10 rfl rfl)
theorem dX0_rounded_11 : decode cX0_rounded 11 = .ok (.lmul, 1) := dk_105 (dk_at dksX0_rounded_0 11 rfl rfl)
theorem dX0_rounded_12 : decode cX0_rounded 12 = .ok (.invokestatic 241, 3) := dk_184 0 241 (dk_at dksX0_rounded_0 12 rfl rfl)
theorem dX0_rounded_15 : decode cX0_rounded 15 = .ok (.lreturn, 1) := dk_173 (dk_at dksX0_rounded_0 15 rfl rfl)
abbrev cX0_confirms : ByteArray := prog_1_method_41_code
def yX0_confirms : MethodName := ⟨RX0, "confirms", "(I[I)V"⟩
def dkwX0_confirms_5 : List UInt8 := [167, 255, 155, 42, 180, 1, 15, 27, 46, 2, 159, 0, 12, 44, 42, 180, 1, 15, 27, 46, 4, 79, 177]
abbrev dktX0_confirms_5 : List UInt8 := dkwX0_confirms_5 ++ []
def dkwX0_confirms_4 : List UInt8 := [21, 5, 153, 0, 18, 42, 180, 1, 15, 27, 29, 79, 42, 180, 1, 18, 27, 21, 4, 79, 132, 3, 1]
abbrev dktX0_confirms_4 : List UInt8 := dkwX0_confirms_4 ++ dktX0_confirms_5
def dkwX0_confirms_3 : List UInt8 := [167, 0, 4, 3, 54, 5, 44, 29, 46, 154, 0, 34, 21, 4, 42, 180, 0, 130, 6, 46, 163, 0, 23]
abbrev dktX0_confirms_3 : List UInt8 := dkwX0_confirms_3 ++ dktX0_confirms_4
def dkwX0_confirms_2 : List UInt8 := [54, 4, 42, 180, 1, 15, 27, 46, 2, 159, 0, 14, 21, 4, 42, 180, 1, 18, 27, 46, 162, 0, 7, 4]
abbrev dktX0_confirms_2 : List UInt8 := dkwX0_confirms_2 ++ dktX0_confirms_3
def dkwX0_confirms_1 : List UInt8 := [162, 0, 97, 42, 180, 1, 2, 153, 0, 90, 27, 42, 180, 0, 191, 159, 0, 82, 42, 27, 29, 182, 1, 21]
abbrev dktX0_confirms_1 : List UInt8 := dkwX0_confirms_1 ++ dktX0_confirms_2
def dkwX0_confirms_0 : List UInt8 := [42, 180, 1, 15, 27, 2, 79, 42, 180, 1, 18, 27, 2, 79, 3, 62, 29, 42, 180, 0, 11, 3, 46]
abbrev dktX0_confirms_0 : List UInt8 := dkwX0_confirms_0 ++ dktX0_confirms_1
theorem dksX0_confirms_0 : cX0_confirms.data.toList.drop 0 = dktX0_confirms_0 := by decide +kernel
theorem dksX0_confirms_1 : cX0_confirms.data.toList.drop 23 = dktX0_confirms_1 := dk_seg dksX0_confirms_0 23 rfl rfl
theorem dksX0_confirms_2 : cX0_confirms.data.toList.drop 47 = dktX0_confirms_2 := dk_seg dksX0_confirms_1 24 rfl rfl
theorem dksX0_confirms_3 : cX0_confirms.data.toList.drop 71 = dktX0_confirms_3 := dk_seg dksX0_confirms_2 24 rfl rfl
theorem dksX0_confirms_4 : cX0_confirms.data.toList.drop 94 = dktX0_confirms_4 := dk_seg dksX0_confirms_3 23 rfl rfl
theorem dksX0_confirms_5 : cX0_confirms.data.toList.drop 117 = dktX0_confirms_5 := dk_seg dksX0_confirms_4 23 rfl rfl
theorem dX0_confirms_0 : decode cX0_confirms 0 = .ok (.aload_n 0, 1) := dk_42 (dk_at dksX0_confirms_0 0 rfl rfl)
theorem dX0_confirms_1 : decode cX0_confirms 1 = .ok (.getfield 271, 3) := dk_180 1 15 (dk_at dksX0_confirms_0 1 rfl rfl)
theorem dX0_confirms_4 : decode cX0_confirms 4 = .ok (.iload_n 1, 1) := dk_27 (dk_at dksX0_confirms_0 4 rfl rfl)
theorem dX0_confirms_5 : decode cX0_confirms 5 = .ok (.iconst (-1), 1) := dk_2 (dk_at dksX0_confirms_0 5 rfl rfl)
theorem dX0_confirms_6 : decode cX0_confirms 6 = .ok (.iastore, 1) := dk_79 (dk_at dksX0_confirms_0 6 rfl rfl)
theorem dX0_confirms_7 : decode cX0_confirms 7 = .ok (.aload_n 0, 1) := dk_42 (dk_at dksX0_confirms_0 7 rfl rfl)
theorem dX0_confirms_8 : decode cX0_confirms 8 = .ok (.getfield 274, 3) := dk_180 1 18 (dk_at dksX0_confirms_0 8 rfl rfl)
theorem dX0_confirms_11 : decode cX0_confirms 11 = .ok (.iload_n 1, 1) := dk_27 (dk_at dksX0_confirms_0 11 rfl rfl)
theorem dX0_confirms_12 : decode cX0_confirms 12 = .ok (.iconst (-1), 1) := dk_2 (dk_at dksX0_confirms_0 12 rfl rfl)
theorem dX0_confirms_13 : decode cX0_confirms 13 = .ok (.iastore, 1) := dk_79 (dk_at dksX0_confirms_0 13 rfl rfl)
theorem dX0_confirms_14 : decode cX0_confirms 14 = .ok (.iconst 0, 1) := dk_3 (dk_at dksX0_confirms_0 14 rfl rfl)
theorem dX0_confirms_15 : decode cX0_confirms 15 = .ok (.istore_n 3, 1) := dk_62 (dk_at dksX0_confirms_0 15 rfl rfl)
theorem dX0_confirms_16 : decode cX0_confirms 16 = .ok (.iload_n 3, 1) := dk_29 (dk_at dksX0_confirms_0 16 rfl rfl)
theorem dX0_confirms_17 : decode cX0_confirms 17 = .ok (.aload_n 0, 1) := dk_42 (dk_at dksX0_confirms_0 17 rfl rfl)
theorem dX0_confirms_18 : decode cX0_confirms 18 = .ok (.getfield 11, 3) := dk_180 0 11 (dk_at dksX0_confirms_0 18 rfl rfl)
theorem dX0_confirms_21 : decode cX0_confirms 21 = .ok (.iconst 0, 1) := dk_3 (dk_at dksX0_confirms_0 21 rfl rfl)
theorem dX0_confirms_22 : decode cX0_confirms 22 = .ok (.iaload, 1) := dk_46 (dk_at dksX0_confirms_0 22 rfl rfl)
theorem dX0_confirms_23 : decode cX0_confirms 23 = .ok (.if_icmp .ge 97, 3) := dk_162 0 97 (dk_at dksX0_confirms_1 0 rfl rfl)
theorem dX0_confirms_26 : decode cX0_confirms 26 = .ok (.aload_n 0, 1) := dk_42 (dk_at dksX0_confirms_1 3 rfl rfl)
theorem dX0_confirms_27 : decode cX0_confirms 27 = .ok (.getfield 258, 3) := dk_180 1 2 (dk_at dksX0_confirms_1 4 rfl rfl)
theorem dX0_confirms_30 : decode cX0_confirms 30 = .ok (.ifCond .eq 90, 3) := dk_153 0 90 (dk_at dksX0_confirms_1 7 rfl rfl)
theorem dX0_confirms_33 : decode cX0_confirms 33 = .ok (.iload_n 1, 1) := dk_27 (dk_at dksX0_confirms_1 10 rfl rfl)
theorem dX0_confirms_34 : decode cX0_confirms 34 = .ok (.aload_n 0, 1) := dk_42 (dk_at dksX0_confirms_1 11 rfl rfl)
theorem dX0_confirms_35 : decode cX0_confirms 35 = .ok (.getfield 191, 3) := dk_180 0 191 (dk_at dksX0_confirms_1 12 rfl rfl)
theorem dX0_confirms_38 : decode cX0_confirms 38 = .ok (.if_icmp .eq 82, 3) := dk_159 0 82 (dk_at dksX0_confirms_1 15 rfl rfl)
theorem dX0_confirms_41 : decode cX0_confirms 41 = .ok (.aload_n 0, 1) := dk_42 (dk_at dksX0_confirms_1 18 rfl rfl)
theorem dX0_confirms_42 : decode cX0_confirms 42 = .ok (.iload_n 1, 1) := dk_27 (dk_at dksX0_confirms_1 19 rfl rfl)
theorem dX0_confirms_43 : decode cX0_confirms 43 = .ok (.iload_n 3, 1) := dk_29 (dk_at dksX0_confirms_1 20 rfl rfl)
theorem dX0_confirms_44 : decode cX0_confirms 44 = .ok (.invokevirtual 277, 3) := dk_182 1 21 (dk_at dksX0_confirms_1 21 rfl rfl)
theorem dX0_confirms_47 : decode cX0_confirms 47 = .ok (.istore 4, 2) := dk_54 4 (dk_at dksX0_confirms_2 0 rfl rfl)
theorem dX0_confirms_49 : decode cX0_confirms 49 = .ok (.aload_n 0, 1) := dk_42 (dk_at dksX0_confirms_2 2 rfl rfl)
theorem dX0_confirms_50 : decode cX0_confirms 50 = .ok (.getfield 271, 3) := dk_180 1 15 (dk_at dksX0_confirms_2 3 rfl rfl)
theorem dX0_confirms_53 : decode cX0_confirms 53 = .ok (.iload_n 1, 1) := dk_27 (dk_at dksX0_confirms_2 6 rfl rfl)
theorem dX0_confirms_54 : decode cX0_confirms 54 = .ok (.iaload, 1) := dk_46 (dk_at dksX0_confirms_2 7 rfl rfl)
theorem dX0_confirms_55 : decode cX0_confirms 55 = .ok (.iconst (-1), 1) := dk_2 (dk_at dksX0_confirms_2 8 rfl rfl)
theorem dX0_confirms_56 : decode cX0_confirms 56 = .ok (.if_icmp .eq 14, 3) := dk_159 0 14 (dk_at dksX0_confirms_2 9 rfl rfl)
theorem dX0_confirms_59 : decode cX0_confirms 59 = .ok (.iload 4, 2) := dk_21 4 (dk_at dksX0_confirms_2 12 rfl rfl)
theorem dX0_confirms_61 : decode cX0_confirms 61 = .ok (.aload_n 0, 1) := dk_42 (dk_at dksX0_confirms_2 14 rfl rfl)
theorem dX0_confirms_62 : decode cX0_confirms 62 = .ok (.getfield 274, 3) := dk_180 1 18 (dk_at dksX0_confirms_2 15 rfl rfl)
theorem dX0_confirms_65 : decode cX0_confirms 65 = .ok (.iload_n 1, 1) := dk_27 (dk_at dksX0_confirms_2 18 rfl rfl)
theorem dX0_confirms_66 : decode cX0_confirms 66 = .ok (.iaload, 1) := dk_46 (dk_at dksX0_confirms_2 19 rfl rfl)
theorem dX0_confirms_67 : decode cX0_confirms 67 = .ok (.if_icmp .ge 7, 3) := dk_162 0 7 (dk_at dksX0_confirms_2 20 rfl rfl)
theorem dX0_confirms_70 : decode cX0_confirms 70 = .ok (.iconst 1, 1) := dk_4 (dk_at dksX0_confirms_2 23 rfl rfl)
theorem dX0_confirms_71 : decode cX0_confirms 71 = .ok (.goto 4, 3) := dk_167 0 4 (dk_at dksX0_confirms_3 0 rfl rfl)
theorem dX0_confirms_74 : decode cX0_confirms 74 = .ok (.iconst 0, 1) := dk_3 (dk_at dksX0_confirms_3 3 rfl rfl)
theorem dX0_confirms_75 : decode cX0_confirms 75 = .ok (.istore 5, 2) := dk_54 5 (dk_at dksX0_confirms_3 4 rfl rfl)
theorem dX0_confirms_77 : decode cX0_confirms 77 = .ok (.aload_n 2, 1) := dk_44 (dk_at dksX0_confirms_3 6 rfl rfl)
theorem dX0_confirms_78 : decode cX0_confirms 78 = .ok (.iload_n 3, 1) := dk_29 (dk_at dksX0_confirms_3 7 rfl rfl)
theorem dX0_confirms_79 : decode cX0_confirms 79 = .ok (.iaload, 1) := dk_46 (dk_at dksX0_confirms_3 8 rfl rfl)
theorem dX0_confirms_80 : decode cX0_confirms 80 = .ok (.ifCond .ne 34, 3) := dk_154 0 34 (dk_at dksX0_confirms_3 9 rfl rfl)
theorem dX0_confirms_83 : decode cX0_confirms 83 = .ok (.iload 4, 2) := dk_21 4 (dk_at dksX0_confirms_3 12 rfl rfl)
theorem dX0_confirms_85 : decode cX0_confirms 85 = .ok (.aload_n 0, 1) := dk_42 (dk_at dksX0_confirms_3 14 rfl rfl)
theorem dX0_confirms_86 : decode cX0_confirms 86 = .ok (.getfield 130, 3) := dk_180 0 130 (dk_at dksX0_confirms_3 15 rfl rfl)
theorem dX0_confirms_89 : decode cX0_confirms 89 = .ok (.iconst 3, 1) := dk_6 (dk_at dksX0_confirms_3 18 rfl rfl)
theorem dX0_confirms_90 : decode cX0_confirms 90 = .ok (.iaload, 1) := dk_46 (dk_at dksX0_confirms_3 19 rfl rfl)
theorem dX0_confirms_91 : decode cX0_confirms 91 = .ok (.if_icmp .gt 23, 3) := dk_163 0 23 (dk_at dksX0_confirms_3 20 rfl rfl)
theorem dX0_confirms_94 : decode cX0_confirms 94 = .ok (.iload 5, 2) := dk_21 5 (dk_at dksX0_confirms_4 0 rfl rfl)
theorem dX0_confirms_96 : decode cX0_confirms 96 = .ok (.ifCond .eq 18, 3) := dk_153 0 18 (dk_at dksX0_confirms_4 2 rfl rfl)
theorem dX0_confirms_99 : decode cX0_confirms 99 = .ok (.aload_n 0, 1) := dk_42 (dk_at dksX0_confirms_4 5 rfl rfl)
theorem dX0_confirms_100 : decode cX0_confirms 100 = .ok (.getfield 271, 3) := dk_180 1 15 (dk_at dksX0_confirms_4 6 rfl rfl)
theorem dX0_confirms_103 : decode cX0_confirms 103 = .ok (.iload_n 1, 1) := dk_27 (dk_at dksX0_confirms_4 9 rfl rfl)
theorem dX0_confirms_104 : decode cX0_confirms 104 = .ok (.iload_n 3, 1) := dk_29 (dk_at dksX0_confirms_4 10 rfl rfl)
theorem dX0_confirms_105 : decode cX0_confirms 105 = .ok (.iastore, 1) := dk_79 (dk_at dksX0_confirms_4 11 rfl rfl)
theorem dX0_confirms_106 : decode cX0_confirms 106 = .ok (.aload_n 0, 1) := dk_42 (dk_at dksX0_confirms_4 12 rfl rfl)
theorem dX0_confirms_107 : decode cX0_confirms 107 = .ok (.getfield 274, 3) := dk_180 1 18 (dk_at dksX0_confirms_4 13 rfl rfl)
theorem dX0_confirms_110 : decode cX0_confirms 110 = .ok (.iload_n 1, 1) := dk_27 (dk_at dksX0_confirms_4 16 rfl rfl)
theorem dX0_confirms_111 : decode cX0_confirms 111 = .ok (.iload 4, 2) := dk_21 4 (dk_at dksX0_confirms_4 17 rfl rfl)
theorem dX0_confirms_113 : decode cX0_confirms 113 = .ok (.iastore, 1) := dk_79 (dk_at dksX0_confirms_4 19 rfl rfl)
theorem dX0_confirms_114 : decode cX0_confirms 114 = .ok (.iinc 3 1, 3) := dk_132 3 1 (dk_at dksX0_confirms_4 20 rfl rfl)
theorem dX0_confirms_117 : decode cX0_confirms 117 = .ok (.goto (-101), 3) := dk_167 255 155 (dk_at dksX0_confirms_5 0 rfl rfl)
theorem dX0_confirms_120 : decode cX0_confirms 120 = .ok (.aload_n 0, 1) := dk_42 (dk_at dksX0_confirms_5 3 rfl rfl)
theorem dX0_confirms_121 : decode cX0_confirms 121 = .ok (.getfield 271, 3) := dk_180 1 15 (dk_at dksX0_confirms_5 4 rfl rfl)
theorem dX0_confirms_124 : decode cX0_confirms 124 = .ok (.iload_n 1, 1) := dk_27 (dk_at dksX0_confirms_5 7 rfl rfl)
theorem dX0_confirms_125 : decode cX0_confirms 125 = .ok (.iaload, 1) := dk_46 (dk_at dksX0_confirms_5 8 rfl rfl)
theorem dX0_confirms_126 : decode cX0_confirms 126 = .ok (.iconst (-1), 1) := dk_2 (dk_at dksX0_confirms_5 9 rfl rfl)
theorem dX0_confirms_127 : decode cX0_confirms 127 = .ok (.if_icmp .eq 12, 3) := dk_159 0 12 (dk_at dksX0_confirms_5 10 rfl rfl)
theorem dX0_confirms_130 : decode cX0_confirms 130 = .ok (.aload_n 2, 1) := dk_44 (dk_at dksX0_confirms_5 13 rfl rfl)
theorem dX0_confirms_131 : decode cX0_confirms 131 = .ok (.aload_n 0, 1) := dk_42 (dk_at dksX0_confirms_5 14 rfl rfl)
theorem dX0_confirms_132 : decode cX0_confirms 132 = .ok (.getfield 271, 3) := dk_180 1 15 (dk_at dksX0_confirms_5 15 rfl rfl)
theorem dX0_confirms_135 : decode cX0_confirms 135 = .ok (.iload_n 1, 1) := dk_27 (dk_at dksX0_confirms_5 18 rfl rfl)
theorem dX0_confirms_136 : decode cX0_confirms 136 = .ok (.iaload, 1) := dk_46 (dk_at dksX0_confirms_5 19 rfl rfl)
theorem dX0_confirms_137 : decode cX0_confirms 137 = .ok (.iconst 1, 1) := dk_4 (dk_at dksX0_confirms_5 20 rfl rfl)
theorem dX0_confirms_138 : decode cX0_confirms 138 = .ok (.iastore, 1) := dk_79 (dk_at dksX0_confirms_5 21 rfl rfl)
theorem dX0_confirms_139 : decode cX0_confirms 139 = .ok (.return_, 1) := dk_177 (dk_at dksX0_confirms_5 22 rfl rfl)
abbrev cX0_farOf : ByteArray := prog_1_method_40_code
def yX0_farOf : MethodName := ⟨RX0, "farOf", "(II)I"⟩
def dkwX0_farOf_2 : List UInt8 := [29, 172]
abbrev dktX0_farOf_2 : List UInt8 := dkwX0_farOf_2 ++ []
def dkwX0_farOf_1 : List UInt8 := [180, 0, 7, 4, 50, 27, 50, 21, 4, 182, 0, 50, 100, 184, 1, 12, 96, 62, 132, 4, 1, 167, 255, 218]
abbrev dktX0_farOf_1 : List UInt8 := dkwX0_farOf_1 ++ dktX0_farOf_2
def dkwX0_farOf_0 : List UInt8 := [3, 62, 3, 54, 4, 21, 4, 6, 162, 0, 38, 29, 42, 180, 0, 252, 28, 50, 21, 4, 46, 42]
abbrev dktX0_farOf_0 : List UInt8 := dkwX0_farOf_0 ++ dktX0_farOf_1
theorem dksX0_farOf_0 : cX0_farOf.data.toList.drop 0 = dktX0_farOf_0 := by decide +kernel
theorem dksX0_farOf_1 : cX0_farOf.data.toList.drop 22 = dktX0_farOf_1 := dk_seg dksX0_farOf_0 22 rfl rfl
theorem dksX0_farOf_2 : cX0_farOf.data.toList.drop 46 = dktX0_farOf_2 := dk_seg dksX0_farOf_1 24 rfl rfl
theorem dX0_farOf_0 : decode cX0_farOf 0 = .ok (.iconst 0, 1) := dk_3 (dk_at dksX0_farOf_0 0 rfl rfl)
theorem dX0_farOf_1 : decode cX0_farOf 1 = .ok (.istore_n 3, 1) := dk_62 (dk_at dksX0_farOf_0 1 rfl rfl)
theorem dX0_farOf_2 : decode cX0_farOf 2 = .ok (.iconst 0, 1) := dk_3 (dk_at dksX0_farOf_0 2 rfl rfl)
theorem dX0_farOf_3 : decode cX0_farOf 3 = .ok (.istore 4, 2) := dk_54 4 (dk_at dksX0_farOf_0 3 rfl rfl)
theorem dX0_farOf_5 : decode cX0_farOf 5 = .ok (.iload 4, 2) := dk_21 4 (dk_at dksX0_farOf_0 5 rfl rfl)
theorem dX0_farOf_7 : decode cX0_farOf 7 = .ok (.iconst 3, 1) := dk_6 (dk_at dksX0_farOf_0 7 rfl rfl)
theorem dX0_farOf_8 : decode cX0_farOf 8 = .ok (.if_icmp .ge 38, 3) := dk_162 0 38 (dk_at dksX0_farOf_0 8 rfl rfl)
theorem dX0_farOf_11 : decode cX0_farOf 11 = .ok (.iload_n 3, 1) := dk_29 (dk_at dksX0_farOf_0 11 rfl rfl)
theorem dX0_farOf_12 : decode cX0_farOf 12 = .ok (.aload_n 0, 1) := dk_42 (dk_at dksX0_farOf_0 12 rfl rfl)
theorem dX0_farOf_13 : decode cX0_farOf 13 = .ok (.getfield 252, 3) := dk_180 0 252 (dk_at dksX0_farOf_0 13 rfl rfl)
theorem dX0_farOf_16 : decode cX0_farOf 16 = .ok (.iload_n 2, 1) := dk_28 (dk_at dksX0_farOf_0 16 rfl rfl)
theorem dX0_farOf_17 : decode cX0_farOf 17 = .ok (.aaload, 1) := dk_50 (dk_at dksX0_farOf_0 17 rfl rfl)
theorem dX0_farOf_18 : decode cX0_farOf 18 = .ok (.iload 4, 2) := dk_21 4 (dk_at dksX0_farOf_0 18 rfl rfl)
theorem dX0_farOf_20 : decode cX0_farOf 20 = .ok (.iaload, 1) := dk_46 (dk_at dksX0_farOf_0 20 rfl rfl)
theorem dX0_farOf_21 : decode cX0_farOf 21 = .ok (.aload_n 0, 1) := dk_42 (dk_at dksX0_farOf_0 21 rfl rfl)
theorem dX0_farOf_22 : decode cX0_farOf 22 = .ok (.getfield 7, 3) := dk_180 0 7 (dk_at dksX0_farOf_1 0 rfl rfl)
theorem dX0_farOf_25 : decode cX0_farOf 25 = .ok (.iconst 1, 1) := dk_4 (dk_at dksX0_farOf_1 3 rfl rfl)
theorem dX0_farOf_26 : decode cX0_farOf 26 = .ok (.aaload, 1) := dk_50 (dk_at dksX0_farOf_1 4 rfl rfl)
theorem dX0_farOf_27 : decode cX0_farOf 27 = .ok (.iload_n 1, 1) := dk_27 (dk_at dksX0_farOf_1 5 rfl rfl)
theorem dX0_farOf_28 : decode cX0_farOf 28 = .ok (.aaload, 1) := dk_50 (dk_at dksX0_farOf_1 6 rfl rfl)
theorem dX0_farOf_29 : decode cX0_farOf 29 = .ok (.iload 4, 2) := dk_21 4 (dk_at dksX0_farOf_1 7 rfl rfl)
theorem dX0_farOf_31 : decode cX0_farOf 31 = .ok (.invokevirtual 50, 3) := dk_182 0 50 (dk_at dksX0_farOf_1 9 rfl rfl)
theorem dX0_farOf_34 : decode cX0_farOf 34 = .ok (.isub, 1) := dk_100 (dk_at dksX0_farOf_1 12 rfl rfl)
theorem dX0_farOf_35 : decode cX0_farOf 35 = .ok (.invokestatic 268, 3) := dk_184 1 12 (dk_at dksX0_farOf_1 13 rfl rfl)
theorem dX0_farOf_38 : decode cX0_farOf 38 = .ok (.iadd, 1) := dk_96 (dk_at dksX0_farOf_1 16 rfl rfl)
theorem dX0_farOf_39 : decode cX0_farOf 39 = .ok (.istore_n 3, 1) := dk_62 (dk_at dksX0_farOf_1 17 rfl rfl)
theorem dX0_farOf_40 : decode cX0_farOf 40 = .ok (.iinc 4 1, 3) := dk_132 4 1 (dk_at dksX0_farOf_1 18 rfl rfl)
theorem dX0_farOf_43 : decode cX0_farOf 43 = .ok (.goto (-38), 3) := dk_167 255 218 (dk_at dksX0_farOf_1 21 rfl rfl)
theorem dX0_farOf_46 : decode cX0_farOf 46 = .ok (.iload_n 3, 1) := dk_29 (dk_at dksX0_farOf_2 0 rfl rfl)
theorem dX0_farOf_47 : decode cX0_farOf 47 = .ok (.ireturn, 1) := dk_172 (dk_at dksX0_farOf_2 1 rfl rfl)
abbrev cX0_threes : ByteArray := prog_1_method_44_code
def yX0_threes : MethodName := ⟨RX0, "threes", "(I)I"⟩
def dkwX0_threes_0 : List UInt8 := [26, 26, 4, 100, 104, 26, 5, 100, 104, 16, 6, 108, 172]
abbrev dktX0_threes_0 : List UInt8 := dkwX0_threes_0 ++ []
theorem dksX0_threes_0 : cX0_threes.data.toList.drop 0 = dktX0_threes_0 := by decide +kernel
theorem dX0_threes_0 : decode cX0_threes 0 = .ok (.iload_n 0, 1) := dk_26 (dk_at dksX0_threes_0 0 rfl rfl)
theorem dX0_threes_1 : decode cX0_threes 1 = .ok (.iload_n 0, 1) := dk_26 (dk_at dksX0_threes_0 1 rfl rfl)
theorem dX0_threes_2 : decode cX0_threes 2 = .ok (.iconst 1, 1) := dk_4 (dk_at dksX0_threes_0 2 rfl rfl)
theorem dX0_threes_3 : decode cX0_threes 3 = .ok (.isub, 1) := dk_100 (dk_at dksX0_threes_0 3 rfl rfl)
theorem dX0_threes_4 : decode cX0_threes 4 = .ok (.imul, 1) := dk_104 (dk_at dksX0_threes_0 4 rfl rfl)
theorem dX0_threes_5 : decode cX0_threes 5 = .ok (.iload_n 0, 1) := dk_26 (dk_at dksX0_threes_0 5 rfl rfl)
theorem dX0_threes_6 : decode cX0_threes 6 = .ok (.iconst 2, 1) := dk_5 (dk_at dksX0_threes_0 6 rfl rfl)
theorem dX0_threes_7 : decode cX0_threes 7 = .ok (.isub, 1) := dk_100 (dk_at dksX0_threes_0 7 rfl rfl)
theorem dX0_threes_8 : decode cX0_threes 8 = .ok (.imul, 1) := dk_104 (dk_at dksX0_threes_0 8 rfl rfl)
theorem dX0_threes_9 : decode cX0_threes 9 = .ok (.bipush 6, 2) := dk_16 6 (dk_at dksX0_threes_0 9 rfl rfl)
theorem dX0_threes_11 : decode cX0_threes 11 = .ok (.idiv, 1) := dk_108 (dk_at dksX0_threes_0 11 rfl rfl)
theorem dX0_threes_12 : decode cX0_threes 12 = .ok (.ireturn, 1) := dk_172 (dk_at dksX0_threes_0 12 rfl rfl)
abbrev cX0_votes : ByteArray := prog_1_method_48_code
def yX0_votes : MethodName := ⟨RX0, "votes", "(II)I"⟩
def dkwX0_votes_1 : List UInt8 := [167, 0, 5, 16, 254, 172]
abbrev dktX0_votes_1 : List UInt8 := dkwX0_votes_1 ++ []
def dkwX0_votes_0 : List UInt8 := [42, 4, 27, 182, 0, 43, 153, 0, 21, 42, 3, 28, 182, 0, 43, 153, 0, 12, 42, 27, 28, 182, 1, 53]
abbrev dktX0_votes_0 : List UInt8 := dkwX0_votes_0 ++ dktX0_votes_1
theorem dksX0_votes_0 : cX0_votes.data.toList.drop 0 = dktX0_votes_0 := by decide +kernel
theorem dksX0_votes_1 : cX0_votes.data.toList.drop 24 = dktX0_votes_1 := dk_seg dksX0_votes_0 24 rfl rfl
theorem dX0_votes_0 : decode cX0_votes 0 = .ok (.aload_n 0, 1) := dk_42 (dk_at dksX0_votes_0 0 rfl rfl)
theorem dX0_votes_1 : decode cX0_votes 1 = .ok (.iconst 1, 1) := dk_4 (dk_at dksX0_votes_0 1 rfl rfl)
theorem dX0_votes_2 : decode cX0_votes 2 = .ok (.iload_n 1, 1) := dk_27 (dk_at dksX0_votes_0 2 rfl rfl)
theorem dX0_votes_3 : decode cX0_votes 3 = .ok (.invokevirtual 43, 3) := dk_182 0 43 (dk_at dksX0_votes_0 3 rfl rfl)
theorem dX0_votes_6 : decode cX0_votes 6 = .ok (.ifCond .eq 21, 3) := dk_153 0 21 (dk_at dksX0_votes_0 6 rfl rfl)
theorem dX0_votes_9 : decode cX0_votes 9 = .ok (.aload_n 0, 1) := dk_42 (dk_at dksX0_votes_0 9 rfl rfl)
theorem dX0_votes_10 : decode cX0_votes 10 = .ok (.iconst 0, 1) := dk_3 (dk_at dksX0_votes_0 10 rfl rfl)
theorem dX0_votes_11 : decode cX0_votes 11 = .ok (.iload_n 2, 1) := dk_28 (dk_at dksX0_votes_0 11 rfl rfl)
theorem dX0_votes_12 : decode cX0_votes 12 = .ok (.invokevirtual 43, 3) := dk_182 0 43 (dk_at dksX0_votes_0 12 rfl rfl)
theorem dX0_votes_15 : decode cX0_votes 15 = .ok (.ifCond .eq 12, 3) := dk_153 0 12 (dk_at dksX0_votes_0 15 rfl rfl)
theorem dX0_votes_18 : decode cX0_votes 18 = .ok (.aload_n 0, 1) := dk_42 (dk_at dksX0_votes_0 18 rfl rfl)
theorem dX0_votes_19 : decode cX0_votes 19 = .ok (.iload_n 1, 1) := dk_27 (dk_at dksX0_votes_0 19 rfl rfl)
theorem dX0_votes_20 : decode cX0_votes 20 = .ok (.iload_n 2, 1) := dk_28 (dk_at dksX0_votes_0 20 rfl rfl)
theorem dX0_votes_21 : decode cX0_votes 21 = .ok (.invokevirtual 309, 3) := dk_182 1 53 (dk_at dksX0_votes_0 21 rfl rfl)
theorem dX0_votes_24 : decode cX0_votes 24 = .ok (.goto 5, 3) := dk_167 0 5 (dk_at dksX0_votes_1 0 rfl rfl)
theorem dX0_votes_27 : decode cX0_votes 27 = .ok (.bipush (-2), 2) := dk_16 254 (dk_at dksX0_votes_1 3 rfl rfl)
theorem dX0_votes_29 : decode cX0_votes 29 = .ok (.ireturn, 1) := dk_172 (dk_at dksX0_votes_1 5 rfl rfl)
abbrev cX0_votesOf : ByteArray := prog_1_method_47_code
def yX0_votesOf : MethodName := ⟨RX0, "votesOf", "(II)I"⟩
def dkwX0_votesOf_0 : List UInt8 := [42, 182, 1, 44, 42, 180, 0, 156, 27, 50, 28, 46, 172]
abbrev dktX0_votesOf_0 : List UInt8 := dkwX0_votesOf_0 ++ []
theorem dksX0_votesOf_0 : cX0_votesOf.data.toList.drop 0 = dktX0_votesOf_0 := by decide +kernel
theorem dX0_votesOf_0 : decode cX0_votesOf 0 = .ok (.aload_n 0, 1) := dk_42 (dk_at dksX0_votesOf_0 0 rfl rfl)
theorem dX0_votesOf_1 : decode cX0_votesOf 1 = .ok (.invokevirtual 300, 3) := dk_182 1 44 (dk_at dksX0_votesOf_0 1 rfl rfl)
theorem dX0_votesOf_4 : decode cX0_votesOf 4 = .ok (.aload_n 0, 1) := dk_42 (dk_at dksX0_votesOf_0 4 rfl rfl)
theorem dX0_votesOf_5 : decode cX0_votesOf 5 = .ok (.getfield 156, 3) := dk_180 0 156 (dk_at dksX0_votesOf_0 5 rfl rfl)
theorem dX0_votesOf_8 : decode cX0_votesOf 8 = .ok (.iload_n 1, 1) := dk_27 (dk_at dksX0_votesOf_0 8 rfl rfl)
theorem dX0_votesOf_9 : decode cX0_votesOf 9 = .ok (.aaload, 1) := dk_50 (dk_at dksX0_votesOf_0 9 rfl rfl)
theorem dX0_votesOf_10 : decode cX0_votesOf 10 = .ok (.iload_n 2, 1) := dk_28 (dk_at dksX0_votesOf_0 10 rfl rfl)
theorem dX0_votesOf_11 : decode cX0_votesOf 11 = .ok (.iaload, 1) := dk_46 (dk_at dksX0_votesOf_0 11 rfl rfl)
theorem dX0_votesOf_12 : decode cX0_votesOf 12 = .ok (.ireturn, 1) := dk_172 (dk_at dksX0_votesOf_0 12 rfl rfl)
abbrev cX0_taken_2 : ByteArray := prog_1_method_50_code
def yX0_taken_2 : MethodName := ⟨RX0, "taken", "(II)I"⟩
def dkwX0_taken_2_1 : List UInt8 := [167, 0, 5, 16, 254, 172]
abbrev dktX0_taken_2_1 : List UInt8 := dkwX0_taken_2_1 ++ []
def dkwX0_taken_2_0 : List UInt8 := [42, 4, 27, 182, 0, 43, 153, 0, 19, 28, 184, 0, 35, 153, 0, 12, 42, 27, 28, 182, 1, 56]
abbrev dktX0_taken_2_0 : List UInt8 := dkwX0_taken_2_0 ++ dktX0_taken_2_1
theorem dksX0_taken_2_0 : cX0_taken_2.data.toList.drop 0 = dktX0_taken_2_0 := by decide +kernel
theorem dksX0_taken_2_1 : cX0_taken_2.data.toList.drop 22 = dktX0_taken_2_1 := dk_seg dksX0_taken_2_0 22 rfl rfl
theorem dX0_taken_2_0 : decode cX0_taken_2 0 = .ok (.aload_n 0, 1) := dk_42 (dk_at dksX0_taken_2_0 0 rfl rfl)
theorem dX0_taken_2_1 : decode cX0_taken_2 1 = .ok (.iconst 1, 1) := dk_4 (dk_at dksX0_taken_2_0 1 rfl rfl)
theorem dX0_taken_2_2 : decode cX0_taken_2 2 = .ok (.iload_n 1, 1) := dk_27 (dk_at dksX0_taken_2_0 2 rfl rfl)
theorem dX0_taken_2_3 : decode cX0_taken_2 3 = .ok (.invokevirtual 43, 3) := dk_182 0 43 (dk_at dksX0_taken_2_0 3 rfl rfl)
theorem dX0_taken_2_6 : decode cX0_taken_2 6 = .ok (.ifCond .eq 19, 3) := dk_153 0 19 (dk_at dksX0_taken_2_0 6 rfl rfl)
theorem dX0_taken_2_9 : decode cX0_taken_2 9 = .ok (.iload_n 2, 1) := dk_28 (dk_at dksX0_taken_2_0 9 rfl rfl)
theorem dX0_taken_2_10 : decode cX0_taken_2 10 = .ok (.invokestatic 35, 3) := dk_184 0 35 (dk_at dksX0_taken_2_0 10 rfl rfl)
theorem dX0_taken_2_13 : decode cX0_taken_2 13 = .ok (.ifCond .eq 12, 3) := dk_153 0 12 (dk_at dksX0_taken_2_0 13 rfl rfl)
theorem dX0_taken_2_16 : decode cX0_taken_2 16 = .ok (.aload_n 0, 1) := dk_42 (dk_at dksX0_taken_2_0 16 rfl rfl)
theorem dX0_taken_2_17 : decode cX0_taken_2 17 = .ok (.iload_n 1, 1) := dk_27 (dk_at dksX0_taken_2_0 17 rfl rfl)
theorem dX0_taken_2_18 : decode cX0_taken_2 18 = .ok (.iload_n 2, 1) := dk_28 (dk_at dksX0_taken_2_0 18 rfl rfl)
theorem dX0_taken_2_19 : decode cX0_taken_2 19 = .ok (.invokevirtual 312, 3) := dk_182 1 56 (dk_at dksX0_taken_2_0 19 rfl rfl)
theorem dX0_taken_2_22 : decode cX0_taken_2 22 = .ok (.goto 5, 3) := dk_167 0 5 (dk_at dksX0_taken_2_1 0 rfl rfl)
theorem dX0_taken_2_25 : decode cX0_taken_2 25 = .ok (.bipush (-2), 2) := dk_16 254 (dk_at dksX0_taken_2_1 3 rfl rfl)
theorem dX0_taken_2_27 : decode cX0_taken_2 27 = .ok (.ireturn, 1) := dk_172 (dk_at dksX0_taken_2_1 5 rfl rfl)
abbrev cX0_takenOf : ByteArray := prog_1_method_49_code
def yX0_takenOf : MethodName := ⟨RX0, "takenOf", "(II)I"⟩
def dkwX0_takenOf_0 : List UInt8 := [42, 182, 1, 44, 28, 154, 0, 12, 42, 180, 0, 198, 27, 46, 167, 0, 9, 42, 180, 0, 204, 27, 46, 172]
abbrev dktX0_takenOf_0 : List UInt8 := dkwX0_takenOf_0 ++ []
theorem dksX0_takenOf_0 : cX0_takenOf.data.toList.drop 0 = dktX0_takenOf_0 := by decide +kernel
theorem dX0_takenOf_0 : decode cX0_takenOf 0 = .ok (.aload_n 0, 1) := dk_42 (dk_at dksX0_takenOf_0 0 rfl rfl)
theorem dX0_takenOf_1 : decode cX0_takenOf 1 = .ok (.invokevirtual 300, 3) := dk_182 1 44 (dk_at dksX0_takenOf_0 1 rfl rfl)
theorem dX0_takenOf_4 : decode cX0_takenOf 4 = .ok (.iload_n 2, 1) := dk_28 (dk_at dksX0_takenOf_0 4 rfl rfl)
theorem dX0_takenOf_5 : decode cX0_takenOf 5 = .ok (.ifCond .ne 12, 3) := dk_154 0 12 (dk_at dksX0_takenOf_0 5 rfl rfl)
theorem dX0_takenOf_8 : decode cX0_takenOf 8 = .ok (.aload_n 0, 1) := dk_42 (dk_at dksX0_takenOf_0 8 rfl rfl)
theorem dX0_takenOf_9 : decode cX0_takenOf 9 = .ok (.getfield 198, 3) := dk_180 0 198 (dk_at dksX0_takenOf_0 9 rfl rfl)
theorem dX0_takenOf_12 : decode cX0_takenOf 12 = .ok (.iload_n 1, 1) := dk_27 (dk_at dksX0_takenOf_0 12 rfl rfl)
theorem dX0_takenOf_13 : decode cX0_takenOf 13 = .ok (.iaload, 1) := dk_46 (dk_at dksX0_takenOf_0 13 rfl rfl)
theorem dX0_takenOf_14 : decode cX0_takenOf 14 = .ok (.goto 9, 3) := dk_167 0 9 (dk_at dksX0_takenOf_0 14 rfl rfl)
theorem dX0_takenOf_17 : decode cX0_takenOf 17 = .ok (.aload_n 0, 1) := dk_42 (dk_at dksX0_takenOf_0 17 rfl rfl)
theorem dX0_takenOf_18 : decode cX0_takenOf 18 = .ok (.getfield 204, 3) := dk_180 0 204 (dk_at dksX0_takenOf_0 18 rfl rfl)
theorem dX0_takenOf_21 : decode cX0_takenOf 21 = .ok (.iload_n 1, 1) := dk_27 (dk_at dksX0_takenOf_0 21 rfl rfl)
theorem dX0_takenOf_22 : decode cX0_takenOf 22 = .ok (.iaload, 1) := dk_46 (dk_at dksX0_takenOf_0 22 rfl rfl)
theorem dX0_takenOf_23 : decode cX0_takenOf 23 = .ok (.ireturn, 1) := dk_172 (dk_at dksX0_takenOf_0 23 rfl rfl)
abbrev cX0_turn : ByteArray := prog_1_method_52_code
def yX0_turn : MethodName := ⟨RX0, "turn", "()I"⟩
def dkwX0_turn_0 : List UInt8 := [42, 182, 1, 59, 153, 0, 7, 4, 167, 0, 4, 3, 172]
abbrev dktX0_turn_0 : List UInt8 := dkwX0_turn_0 ++ []
theorem dksX0_turn_0 : cX0_turn.data.toList.drop 0 = dktX0_turn_0 := by decide +kernel
theorem dX0_turn_0 : decode cX0_turn 0 = .ok (.aload_n 0, 1) := dk_42 (dk_at dksX0_turn_0 0 rfl rfl)
theorem dX0_turn_1 : decode cX0_turn 1 = .ok (.invokevirtual 315, 3) := dk_182 1 59 (dk_at dksX0_turn_0 1 rfl rfl)
theorem dX0_turn_4 : decode cX0_turn 4 = .ok (.ifCond .eq 7, 3) := dk_153 0 7 (dk_at dksX0_turn_0 4 rfl rfl)
theorem dX0_turn_7 : decode cX0_turn 7 = .ok (.iconst 1, 1) := dk_4 (dk_at dksX0_turn_0 7 rfl rfl)
theorem dX0_turn_8 : decode cX0_turn 8 = .ok (.goto 4, 3) := dk_167 0 4 (dk_at dksX0_turn_0 8 rfl rfl)
theorem dX0_turn_11 : decode cX0_turn 11 = .ok (.iconst 0, 1) := dk_3 (dk_at dksX0_turn_0 11 rfl rfl)
theorem dX0_turn_12 : decode cX0_turn 12 = .ok (.ireturn, 1) := dk_172 (dk_at dksX0_turn_0 12 rfl rfl)
abbrev cX0_isTurned : ByteArray := prog_1_method_51_code
def yX0_isTurned : MethodName := ⟨RX0, "isTurned", "()Z"⟩
def dkwX0_isTurned_0 : List UInt8 := [42, 182, 1, 44, 42, 180, 1, 2, 172]
abbrev dktX0_isTurned_0 : List UInt8 := dkwX0_isTurned_0 ++ []
theorem dksX0_isTurned_0 : cX0_isTurned.data.toList.drop 0 = dktX0_isTurned_0 := by decide +kernel
theorem dX0_isTurned_0 : decode cX0_isTurned 0 = .ok (.aload_n 0, 1) := dk_42 (dk_at dksX0_isTurned_0 0 rfl rfl)
theorem dX0_isTurned_1 : decode cX0_isTurned 1 = .ok (.invokevirtual 300, 3) := dk_182 1 44 (dk_at dksX0_isTurned_0 1 rfl rfl)
theorem dX0_isTurned_4 : decode cX0_isTurned 4 = .ok (.aload_n 0, 1) := dk_42 (dk_at dksX0_isTurned_0 4 rfl rfl)
theorem dX0_isTurned_5 : decode cX0_isTurned 5 = .ok (.getfield 258, 3) := dk_180 1 2 (dk_at dksX0_isTurned_0 5 rfl rfl)
theorem dX0_isTurned_8 : decode cX0_isTurned 8 = .ok (.ireturn, 1) := dk_172 (dk_at dksX0_isTurned_0 8 rfl rfl)
abbrev cX0_place : ByteArray := prog_1_method_53_code
def yX0_place : MethodName := ⟨RX0, "place", "(II)I"⟩
def dkwX0_place_1 : List UInt8 := [180, 0, 252, 27, 50, 28, 46, 167, 0, 5, 18, 56, 172]
abbrev dktX0_place_1 : List UInt8 := dkwX0_place_1 ++ []
def dkwX0_place_0 : List UInt8 := [42, 3, 27, 182, 0, 43, 153, 0, 28, 28, 184, 0, 47, 153, 0, 21, 42, 182, 1, 59, 153, 0, 14, 42]
abbrev dktX0_place_0 : List UInt8 := dkwX0_place_0 ++ dktX0_place_1
theorem dksX0_place_0 : cX0_place.data.toList.drop 0 = dktX0_place_0 := by decide +kernel
theorem dksX0_place_1 : cX0_place.data.toList.drop 24 = dktX0_place_1 := dk_seg dksX0_place_0 24 rfl rfl
theorem dX0_place_0 : decode cX0_place 0 = .ok (.aload_n 0, 1) := dk_42 (dk_at dksX0_place_0 0 rfl rfl)
theorem dX0_place_1 : decode cX0_place 1 = .ok (.iconst 0, 1) := dk_3 (dk_at dksX0_place_0 1 rfl rfl)
theorem dX0_place_2 : decode cX0_place 2 = .ok (.iload_n 1, 1) := dk_27 (dk_at dksX0_place_0 2 rfl rfl)
theorem dX0_place_3 : decode cX0_place 3 = .ok (.invokevirtual 43, 3) := dk_182 0 43 (dk_at dksX0_place_0 3 rfl rfl)
theorem dX0_place_6 : decode cX0_place 6 = .ok (.ifCond .eq 28, 3) := dk_153 0 28 (dk_at dksX0_place_0 6 rfl rfl)
theorem dX0_place_9 : decode cX0_place 9 = .ok (.iload_n 2, 1) := dk_28 (dk_at dksX0_place_0 9 rfl rfl)
theorem dX0_place_10 : decode cX0_place 10 = .ok (.invokestatic 47, 3) := dk_184 0 47 (dk_at dksX0_place_0 10 rfl rfl)
theorem dX0_place_13 : decode cX0_place 13 = .ok (.ifCond .eq 21, 3) := dk_153 0 21 (dk_at dksX0_place_0 13 rfl rfl)
theorem dX0_place_16 : decode cX0_place 16 = .ok (.aload_n 0, 1) := dk_42 (dk_at dksX0_place_0 16 rfl rfl)
theorem dX0_place_17 : decode cX0_place 17 = .ok (.invokevirtual 315, 3) := dk_182 1 59 (dk_at dksX0_place_0 17 rfl rfl)
theorem dX0_place_20 : decode cX0_place 20 = .ok (.ifCond .eq 14, 3) := dk_153 0 14 (dk_at dksX0_place_0 20 rfl rfl)
theorem dX0_place_23 : decode cX0_place 23 = .ok (.aload_n 0, 1) := dk_42 (dk_at dksX0_place_0 23 rfl rfl)
theorem dX0_place_24 : decode cX0_place 24 = .ok (.getfield 252, 3) := dk_180 0 252 (dk_at dksX0_place_1 0 rfl rfl)
theorem dX0_place_27 : decode cX0_place 27 = .ok (.iload_n 1, 1) := dk_27 (dk_at dksX0_place_1 3 rfl rfl)
theorem dX0_place_28 : decode cX0_place 28 = .ok (.aaload, 1) := dk_50 (dk_at dksX0_place_1 4 rfl rfl)
theorem dX0_place_29 : decode cX0_place 29 = .ok (.iload_n 2, 1) := dk_28 (dk_at dksX0_place_1 5 rfl rfl)
theorem dX0_place_30 : decode cX0_place 30 = .ok (.iaload, 1) := dk_46 (dk_at dksX0_place_1 6 rfl rfl)
theorem dX0_place_31 : decode cX0_place 31 = .ok (.goto 5, 3) := dk_167 0 5 (dk_at dksX0_place_1 7 rfl rfl)
theorem dX0_place_34 : decode cX0_place 34 = .ok (.ldc 56, 2) := dk_18 56 (dk_at dksX0_place_1 10 rfl rfl)
theorem dX0_place_36 : decode cX0_place 36 = .ok (.ireturn, 1) := dk_172 (dk_at dksX0_place_1 12 rfl rfl)
abbrev cX0_confirmed : ByteArray := prog_1_method_55_code
def yX0_confirmed : MethodName := ⟨RX0, "confirmed", "(II)I"⟩
def dkwX0_confirmed_1 : List UInt8 := [167, 0, 5, 16, 254, 172]
abbrev dktX0_confirmed_1 : List UInt8 := dkwX0_confirmed_1 ++ []
def dkwX0_confirmed_0 : List UInt8 := [42, 4, 27, 182, 0, 43, 153, 0, 19, 28, 184, 0, 35, 153, 0, 12, 42, 27, 28, 182, 1, 62]
abbrev dktX0_confirmed_0 : List UInt8 := dkwX0_confirmed_0 ++ dktX0_confirmed_1
theorem dksX0_confirmed_0 : cX0_confirmed.data.toList.drop 0 = dktX0_confirmed_0 := by decide +kernel
theorem dksX0_confirmed_1 : cX0_confirmed.data.toList.drop 22 = dktX0_confirmed_1 := dk_seg dksX0_confirmed_0 22 rfl rfl
theorem dX0_confirmed_0 : decode cX0_confirmed 0 = .ok (.aload_n 0, 1) := dk_42 (dk_at dksX0_confirmed_0 0 rfl rfl)
theorem dX0_confirmed_1 : decode cX0_confirmed 1 = .ok (.iconst 1, 1) := dk_4 (dk_at dksX0_confirmed_0 1 rfl rfl)
theorem dX0_confirmed_2 : decode cX0_confirmed 2 = .ok (.iload_n 1, 1) := dk_27 (dk_at dksX0_confirmed_0 2 rfl rfl)
theorem dX0_confirmed_3 : decode cX0_confirmed 3 = .ok (.invokevirtual 43, 3) := dk_182 0 43 (dk_at dksX0_confirmed_0 3 rfl rfl)
theorem dX0_confirmed_6 : decode cX0_confirmed 6 = .ok (.ifCond .eq 19, 3) := dk_153 0 19 (dk_at dksX0_confirmed_0 6 rfl rfl)
theorem dX0_confirmed_9 : decode cX0_confirmed 9 = .ok (.iload_n 2, 1) := dk_28 (dk_at dksX0_confirmed_0 9 rfl rfl)
theorem dX0_confirmed_10 : decode cX0_confirmed 10 = .ok (.invokestatic 35, 3) := dk_184 0 35 (dk_at dksX0_confirmed_0 10 rfl rfl)
theorem dX0_confirmed_13 : decode cX0_confirmed 13 = .ok (.ifCond .eq 12, 3) := dk_153 0 12 (dk_at dksX0_confirmed_0 13 rfl rfl)
theorem dX0_confirmed_16 : decode cX0_confirmed 16 = .ok (.aload_n 0, 1) := dk_42 (dk_at dksX0_confirmed_0 16 rfl rfl)
theorem dX0_confirmed_17 : decode cX0_confirmed 17 = .ok (.iload_n 1, 1) := dk_27 (dk_at dksX0_confirmed_0 17 rfl rfl)
theorem dX0_confirmed_18 : decode cX0_confirmed 18 = .ok (.iload_n 2, 1) := dk_28 (dk_at dksX0_confirmed_0 18 rfl rfl)
theorem dX0_confirmed_19 : decode cX0_confirmed 19 = .ok (.invokevirtual 318, 3) := dk_182 1 62 (dk_at dksX0_confirmed_0 19 rfl rfl)
theorem dX0_confirmed_22 : decode cX0_confirmed 22 = .ok (.goto 5, 3) := dk_167 0 5 (dk_at dksX0_confirmed_1 0 rfl rfl)
theorem dX0_confirmed_25 : decode cX0_confirmed 25 = .ok (.bipush (-2), 2) := dk_16 254 (dk_at dksX0_confirmed_1 3 rfl rfl)
theorem dX0_confirmed_27 : decode cX0_confirmed 27 = .ok (.ireturn, 1) := dk_172 (dk_at dksX0_confirmed_1 5 rfl rfl)
abbrev cX0_confirmedOf : ByteArray := prog_1_method_54_code
def yX0_confirmedOf : MethodName := ⟨RX0, "confirmedOf", "(II)I"⟩
def dkwX0_confirmedOf_0 : List UInt8 := [42, 182, 1, 44, 28, 154, 0, 12, 42, 180, 1, 15, 27, 46, 167, 0, 9, 42, 180, 1, 18, 27, 46, 172]
abbrev dktX0_confirmedOf_0 : List UInt8 := dkwX0_confirmedOf_0 ++ []
theorem dksX0_confirmedOf_0 : cX0_confirmedOf.data.toList.drop 0 = dktX0_confirmedOf_0 := by decide +kernel
theorem dX0_confirmedOf_0 : decode cX0_confirmedOf 0 = .ok (.aload_n 0, 1) := dk_42 (dk_at dksX0_confirmedOf_0 0 rfl rfl)
theorem dX0_confirmedOf_1 : decode cX0_confirmedOf 1 = .ok (.invokevirtual 300, 3) := dk_182 1 44 (dk_at dksX0_confirmedOf_0 1 rfl rfl)
theorem dX0_confirmedOf_4 : decode cX0_confirmedOf 4 = .ok (.iload_n 2, 1) := dk_28 (dk_at dksX0_confirmedOf_0 4 rfl rfl)
theorem dX0_confirmedOf_5 : decode cX0_confirmedOf 5 = .ok (.ifCond .ne 12, 3) := dk_154 0 12 (dk_at dksX0_confirmedOf_0 5 rfl rfl)
theorem dX0_confirmedOf_8 : decode cX0_confirmedOf 8 = .ok (.aload_n 0, 1) := dk_42 (dk_at dksX0_confirmedOf_0 8 rfl rfl)
theorem dX0_confirmedOf_9 : decode cX0_confirmedOf 9 = .ok (.getfield 271, 3) := dk_180 1 15 (dk_at dksX0_confirmedOf_0 9 rfl rfl)
theorem dX0_confirmedOf_12 : decode cX0_confirmedOf 12 = .ok (.iload_n 1, 1) := dk_27 (dk_at dksX0_confirmedOf_0 12 rfl rfl)
theorem dX0_confirmedOf_13 : decode cX0_confirmedOf 13 = .ok (.iaload, 1) := dk_46 (dk_at dksX0_confirmedOf_0 13 rfl rfl)
theorem dX0_confirmedOf_14 : decode cX0_confirmedOf 14 = .ok (.goto 9, 3) := dk_167 0 9 (dk_at dksX0_confirmedOf_0 14 rfl rfl)
theorem dX0_confirmedOf_17 : decode cX0_confirmedOf 17 = .ok (.aload_n 0, 1) := dk_42 (dk_at dksX0_confirmedOf_0 17 rfl rfl)
theorem dX0_confirmedOf_18 : decode cX0_confirmedOf 18 = .ok (.getfield 274, 3) := dk_180 1 18 (dk_at dksX0_confirmedOf_0 18 rfl rfl)
theorem dX0_confirmedOf_21 : decode cX0_confirmedOf 21 = .ok (.iload_n 1, 1) := dk_27 (dk_at dksX0_confirmedOf_0 21 rfl rfl)
theorem dX0_confirmedOf_22 : decode cX0_confirmedOf 22 = .ok (.iaload, 1) := dk_46 (dk_at dksX0_confirmedOf_0 22 rfl rfl)
theorem dX0_confirmedOf_23 : decode cX0_confirmedOf 23 = .ok (.ireturn, 1) := dk_172 (dk_at dksX0_confirmedOf_0 23 rfl rfl)
abbrev cX0_wrong : ByteArray := prog_1_method_57_code
def yX0_wrong : MethodName := ⟨RX0, "wrong", "()I"⟩
theorem dX0_wrong_0 : decode cX0_wrong 0 = .ok (.aload_n 0, 1) := by decide +kernel
theorem dX0_wrong_1 : decode cX0_wrong 1 = .ok (.invokevirtual 321, 3) := by decide +kernel
theorem dX0_wrong_4 : decode cX0_wrong 4 = .ok (.ireturn, 1) := by decide +kernel
abbrev cX0_wrongOf : ByteArray := prog_1_method_56_code
def yX0_wrongOf : MethodName := ⟨RX0, "wrongOf", "()I"⟩
def dkwX0_wrongOf_2 : List UInt8 := [167, 0, 4, 3, 128, 60, 132, 2, 1, 167, 255, 208, 27, 172]
abbrev dktX0_wrongOf_2 : List UInt8 := dkwX0_wrongOf_2 ++ []
def dkwX0_wrongOf_1 : List UInt8 := [46, 2, 159, 0, 24, 42, 180, 0, 198, 28, 46, 42, 180, 1, 15, 28, 46, 159, 0, 9, 4, 28, 120]
abbrev dktX0_wrongOf_1 : List UInt8 := dkwX0_wrongOf_1 ++ dktX0_wrongOf_2
def dkwX0_wrongOf_0 : List UInt8 := [42, 182, 1, 44, 3, 60, 3, 61, 28, 42, 180, 0, 11, 4, 46, 162, 0, 44, 27, 42, 180, 0, 198, 28]
abbrev dktX0_wrongOf_0 : List UInt8 := dkwX0_wrongOf_0 ++ dktX0_wrongOf_1
theorem dksX0_wrongOf_0 : cX0_wrongOf.data.toList.drop 0 = dktX0_wrongOf_0 := by decide +kernel
theorem dksX0_wrongOf_1 : cX0_wrongOf.data.toList.drop 24 = dktX0_wrongOf_1 := dk_seg dksX0_wrongOf_0 24 rfl rfl
theorem dksX0_wrongOf_2 : cX0_wrongOf.data.toList.drop 47 = dktX0_wrongOf_2 := dk_seg dksX0_wrongOf_1 23 rfl rfl
theorem dX0_wrongOf_0 : decode cX0_wrongOf 0 = .ok (.aload_n 0, 1) := dk_42 (dk_at dksX0_wrongOf_0 0 rfl rfl)
theorem dX0_wrongOf_1 : decode cX0_wrongOf 1 = .ok (.invokevirtual 300, 3) := dk_182 1 44 (dk_at dksX0_wrongOf_0 1 rfl rfl)
theorem dX0_wrongOf_4 : decode cX0_wrongOf 4 = .ok (.iconst 0, 1) := dk_3 (dk_at dksX0_wrongOf_0 4 rfl rfl)
theorem dX0_wrongOf_5 : decode cX0_wrongOf 5 = .ok (.istore_n 1, 1) := dk_60 (dk_at dksX0_wrongOf_0 5 rfl rfl)
theorem dX0_wrongOf_6 : decode cX0_wrongOf 6 = .ok (.iconst 0, 1) := dk_3 (dk_at dksX0_wrongOf_0 6 rfl rfl)
theorem dX0_wrongOf_7 : decode cX0_wrongOf 7 = .ok (.istore_n 2, 1) := dk_61 (dk_at dksX0_wrongOf_0 7 rfl rfl)
theorem dX0_wrongOf_8 : decode cX0_wrongOf 8 = .ok (.iload_n 2, 1) := dk_28 (dk_at dksX0_wrongOf_0 8 rfl rfl)
theorem dX0_wrongOf_9 : decode cX0_wrongOf 9 = .ok (.aload_n 0, 1) := dk_42 (dk_at dksX0_wrongOf_0 9 rfl rfl)
theorem dX0_wrongOf_10 : decode cX0_wrongOf 10 = .ok (.getfield 11, 3) := dk_180 0 11 (dk_at dksX0_wrongOf_0 10 rfl rfl)
theorem dX0_wrongOf_13 : decode cX0_wrongOf 13 = .ok (.iconst 1, 1) := dk_4 (dk_at dksX0_wrongOf_0 13 rfl rfl)
theorem dX0_wrongOf_14 : decode cX0_wrongOf 14 = .ok (.iaload, 1) := dk_46 (dk_at dksX0_wrongOf_0 14 rfl rfl)
theorem dX0_wrongOf_15 : decode cX0_wrongOf 15 = .ok (.if_icmp .ge 44, 3) := dk_162 0 44 (dk_at dksX0_wrongOf_0 15 rfl rfl)
theorem dX0_wrongOf_18 : decode cX0_wrongOf 18 = .ok (.iload_n 1, 1) := dk_27 (dk_at dksX0_wrongOf_0 18 rfl rfl)
theorem dX0_wrongOf_19 : decode cX0_wrongOf 19 = .ok (.aload_n 0, 1) := dk_42 (dk_at dksX0_wrongOf_0 19 rfl rfl)
theorem dX0_wrongOf_20 : decode cX0_wrongOf 20 = .ok (.getfield 198, 3) := dk_180 0 198 (dk_at dksX0_wrongOf_0 20 rfl rfl)
theorem dX0_wrongOf_23 : decode cX0_wrongOf 23 = .ok (.iload_n 2, 1) := dk_28 (dk_at dksX0_wrongOf_0 23 rfl rfl)
theorem dX0_wrongOf_24 : decode cX0_wrongOf 24 = .ok (.iaload, 1) := dk_46 (dk_at dksX0_wrongOf_1 0 rfl rfl)
theorem dX0_wrongOf_25 : decode cX0_wrongOf 25 = .ok (.iconst (-1), 1) := dk_2 (dk_at dksX0_wrongOf_1 1 rfl rfl)
theorem dX0_wrongOf_26 : decode cX0_wrongOf 26 = .ok (.if_icmp .eq 24, 3) := dk_159 0 24 (dk_at dksX0_wrongOf_1 2 rfl rfl)
theorem dX0_wrongOf_29 : decode cX0_wrongOf 29 = .ok (.aload_n 0, 1) := dk_42 (dk_at dksX0_wrongOf_1 5 rfl rfl)
theorem dX0_wrongOf_30 : decode cX0_wrongOf 30 = .ok (.getfield 198, 3) := dk_180 0 198 (dk_at dksX0_wrongOf_1 6 rfl rfl)
theorem dX0_wrongOf_33 : decode cX0_wrongOf 33 = .ok (.iload_n 2, 1) := dk_28 (dk_at dksX0_wrongOf_1 9 rfl rfl)
theorem dX0_wrongOf_34 : decode cX0_wrongOf 34 = .ok (.iaload, 1) := dk_46 (dk_at dksX0_wrongOf_1 10 rfl rfl)
theorem dX0_wrongOf_35 : decode cX0_wrongOf 35 = .ok (.aload_n 0, 1) := dk_42 (dk_at dksX0_wrongOf_1 11 rfl rfl)
theorem dX0_wrongOf_36 : decode cX0_wrongOf 36 = .ok (.getfield 271, 3) := dk_180 1 15 (dk_at dksX0_wrongOf_1 12 rfl rfl)
theorem dX0_wrongOf_39 : decode cX0_wrongOf 39 = .ok (.iload_n 2, 1) := dk_28 (dk_at dksX0_wrongOf_1 15 rfl rfl)
theorem dX0_wrongOf_40 : decode cX0_wrongOf 40 = .ok (.iaload, 1) := dk_46 (dk_at dksX0_wrongOf_1 16 rfl rfl)
theorem dX0_wrongOf_41 : decode cX0_wrongOf 41 = .ok (.if_icmp .eq 9, 3) := dk_159 0 9 (dk_at dksX0_wrongOf_1 17 rfl rfl)
theorem dX0_wrongOf_44 : decode cX0_wrongOf 44 = .ok (.iconst 1, 1) := dk_4 (dk_at dksX0_wrongOf_1 20 rfl rfl)
theorem dX0_wrongOf_45 : decode cX0_wrongOf 45 = .ok (.iload_n 2, 1) := dk_28 (dk_at dksX0_wrongOf_1 21 rfl rfl)
theorem dX0_wrongOf_46 : decode cX0_wrongOf 46 = .ok (.ishl, 1) := dk_120 (dk_at dksX0_wrongOf_1 22 rfl rfl)
theorem dX0_wrongOf_47 : decode cX0_wrongOf 47 = .ok (.goto 4, 3) := dk_167 0 4 (dk_at dksX0_wrongOf_2 0 rfl rfl)
theorem dX0_wrongOf_50 : decode cX0_wrongOf 50 = .ok (.iconst 0, 1) := dk_3 (dk_at dksX0_wrongOf_2 3 rfl rfl)
theorem dX0_wrongOf_51 : decode cX0_wrongOf 51 = .ok (.ior, 1) := dk_128 (dk_at dksX0_wrongOf_2 4 rfl rfl)
theorem dX0_wrongOf_52 : decode cX0_wrongOf 52 = .ok (.istore_n 1, 1) := dk_60 (dk_at dksX0_wrongOf_2 5 rfl rfl)
theorem dX0_wrongOf_53 : decode cX0_wrongOf 53 = .ok (.iinc 2 1, 3) := dk_132 2 1 (dk_at dksX0_wrongOf_2 6 rfl rfl)
theorem dX0_wrongOf_56 : decode cX0_wrongOf 56 = .ok (.goto (-48), 3) := dk_167 255 208 (dk_at dksX0_wrongOf_2 9 rfl rfl)
theorem dX0_wrongOf_59 : decode cX0_wrongOf 59 = .ok (.iload_n 1, 1) := dk_27 (dk_at dksX0_wrongOf_2 12 rfl rfl)
theorem dX0_wrongOf_60 : decode cX0_wrongOf 60 = .ok (.ireturn, 1) := dk_172 (dk_at dksX0_wrongOf_2 13 rfl rfl)
abbrev cX0_better : ByteArray := prog_1_method_60_code
def yX0_better : MethodName := ⟨RX0, "better", "(I)I"⟩
def dkwX0_better_0 : List UInt8 := [27, 184, 0, 35, 153, 0, 11, 42, 27, 182, 1, 71, 167, 0, 5, 16, 254, 172]
abbrev dktX0_better_0 : List UInt8 := dkwX0_better_0 ++ []
theorem dksX0_better_0 : cX0_better.data.toList.drop 0 = dktX0_better_0 := by decide +kernel
theorem dX0_better_0 : decode cX0_better 0 = .ok (.iload_n 1, 1) := dk_27 (dk_at dksX0_better_0 0 rfl rfl)
theorem dX0_better_1 : decode cX0_better 1 = .ok (.invokestatic 35, 3) := dk_184 0 35 (dk_at dksX0_better_0 1 rfl rfl)
theorem dX0_better_4 : decode cX0_better 4 = .ok (.ifCond .eq 11, 3) := dk_153 0 11 (dk_at dksX0_better_0 4 rfl rfl)
theorem dX0_better_7 : decode cX0_better 7 = .ok (.aload_n 0, 1) := dk_42 (dk_at dksX0_better_0 7 rfl rfl)
theorem dX0_better_8 : decode cX0_better 8 = .ok (.iload_n 1, 1) := dk_27 (dk_at dksX0_better_0 8 rfl rfl)
theorem dX0_better_9 : decode cX0_better 9 = .ok (.invokevirtual 327, 3) := dk_182 1 71 (dk_at dksX0_better_0 9 rfl rfl)
theorem dX0_better_12 : decode cX0_better 12 = .ok (.goto 5, 3) := dk_167 0 5 (dk_at dksX0_better_0 12 rfl rfl)
theorem dX0_better_15 : decode cX0_better 15 = .ok (.bipush (-2), 2) := dk_16 254 (dk_at dksX0_better_0 15 rfl rfl)
theorem dX0_better_17 : decode cX0_better 17 = .ok (.ireturn, 1) := dk_172 (dk_at dksX0_better_0 17 rfl rfl)
abbrev cX0_betterOf : ByteArray := prog_1_method_59_code
def yX0_betterOf : MethodName := ⟨RX0, "betterOf", "(I)I"⟩
def dkwX0_betterOf_3 : List UInt8 := [172]
abbrev dktX0_betterOf_3 : List UInt8 := dkwX0_betterOf_3 ++ []
def dkwX0_betterOf_2 : List UInt8 := [184, 0, 97, 62, 132, 4, 1, 167, 255, 208, 42, 3, 181, 0, 24, 27, 154, 0, 7, 28, 167, 0, 4, 29]
abbrev dktX0_betterOf_2 : List UInt8 := dkwX0_betterOf_2 ++ dktX0_betterOf_3
def dkwX0_betterOf_1 : List UInt8 := [182, 1, 68, 54, 5, 21, 5, 29, 164, 0, 11, 16, 50, 21, 4, 104, 167, 0, 4, 28, 61, 29, 21, 5]
abbrev dktX0_betterOf_1 : List UInt8 := dkwX0_betterOf_1 ++ dktX0_betterOf_2
def dkwX0_betterOf_0 : List UInt8 := [2, 61, 2, 62, 3, 54, 4, 21, 4, 16, 21, 162, 0, 47, 42, 16, 50, 21, 4, 104, 182, 1, 41, 42]
abbrev dktX0_betterOf_0 : List UInt8 := dkwX0_betterOf_0 ++ dktX0_betterOf_1
theorem dksX0_betterOf_0 : cX0_betterOf.data.toList.drop 0 = dktX0_betterOf_0 := by decide +kernel
theorem dksX0_betterOf_1 : cX0_betterOf.data.toList.drop 24 = dktX0_betterOf_1 := dk_seg dksX0_betterOf_0 24 rfl rfl
theorem dksX0_betterOf_2 : cX0_betterOf.data.toList.drop 48 = dktX0_betterOf_2 := dk_seg dksX0_betterOf_1 24 rfl rfl
theorem dksX0_betterOf_3 : cX0_betterOf.data.toList.drop 72 = dktX0_betterOf_3 := dk_seg dksX0_betterOf_2 24 rfl rfl
theorem dX0_betterOf_0 : decode cX0_betterOf 0 = .ok (.iconst (-1), 1) := dk_2 (dk_at dksX0_betterOf_0 0 rfl rfl)
theorem dX0_betterOf_1 : decode cX0_betterOf 1 = .ok (.istore_n 2, 1) := dk_61 (dk_at dksX0_betterOf_0 1 rfl rfl)
theorem dX0_betterOf_2 : decode cX0_betterOf 2 = .ok (.iconst (-1), 1) := dk_2 (dk_at dksX0_betterOf_0 2 rfl rfl)
theorem dX0_betterOf_3 : decode cX0_betterOf 3 = .ok (.istore_n 3, 1) := dk_62 (dk_at dksX0_betterOf_0 3 rfl rfl)
theorem dX0_betterOf_4 : decode cX0_betterOf 4 = .ok (.iconst 0, 1) := dk_3 (dk_at dksX0_betterOf_0 4 rfl rfl)
theorem dX0_betterOf_5 : decode cX0_betterOf 5 = .ok (.istore 4, 2) := dk_54 4 (dk_at dksX0_betterOf_0 5 rfl rfl)
theorem dX0_betterOf_7 : decode cX0_betterOf 7 = .ok (.iload 4, 2) := dk_21 4 (dk_at dksX0_betterOf_0 7 rfl rfl)
theorem dX0_betterOf_9 : decode cX0_betterOf 9 = .ok (.bipush 21, 2) := dk_16 21 (dk_at dksX0_betterOf_0 9 rfl rfl)
theorem dX0_betterOf_11 : decode cX0_betterOf 11 = .ok (.if_icmp .ge 47, 3) := dk_162 0 47 (dk_at dksX0_betterOf_0 11 rfl rfl)
theorem dX0_betterOf_14 : decode cX0_betterOf 14 = .ok (.aload_n 0, 1) := dk_42 (dk_at dksX0_betterOf_0 14 rfl rfl)
theorem dX0_betterOf_15 : decode cX0_betterOf 15 = .ok (.bipush 50, 2) := dk_16 50 (dk_at dksX0_betterOf_0 15 rfl rfl)
theorem dX0_betterOf_17 : decode cX0_betterOf 17 = .ok (.iload 4, 2) := dk_21 4 (dk_at dksX0_betterOf_0 17 rfl rfl)
theorem dX0_betterOf_19 : decode cX0_betterOf 19 = .ok (.imul, 1) := dk_104 (dk_at dksX0_betterOf_0 19 rfl rfl)
theorem dX0_betterOf_20 : decode cX0_betterOf 20 = .ok (.invokevirtual 297, 3) := dk_182 1 41 (dk_at dksX0_betterOf_0 20 rfl rfl)
theorem dX0_betterOf_23 : decode cX0_betterOf 23 = .ok (.aload_n 0, 1) := dk_42 (dk_at dksX0_betterOf_0 23 rfl rfl)
theorem dX0_betterOf_24 : decode cX0_betterOf 24 = .ok (.invokevirtual 324, 3) := dk_182 1 68 (dk_at dksX0_betterOf_1 0 rfl rfl)
theorem dX0_betterOf_27 : decode cX0_betterOf 27 = .ok (.istore 5, 2) := dk_54 5 (dk_at dksX0_betterOf_1 3 rfl rfl)
theorem dX0_betterOf_29 : decode cX0_betterOf 29 = .ok (.iload 5, 2) := dk_21 5 (dk_at dksX0_betterOf_1 5 rfl rfl)
theorem dX0_betterOf_31 : decode cX0_betterOf 31 = .ok (.iload_n 3, 1) := dk_29 (dk_at dksX0_betterOf_1 7 rfl rfl)
theorem dX0_betterOf_32 : decode cX0_betterOf 32 = .ok (.if_icmp .le 11, 3) := dk_164 0 11 (dk_at dksX0_betterOf_1 8 rfl rfl)
theorem dX0_betterOf_35 : decode cX0_betterOf 35 = .ok (.bipush 50, 2) := dk_16 50 (dk_at dksX0_betterOf_1 11 rfl rfl)
theorem dX0_betterOf_37 : decode cX0_betterOf 37 = .ok (.iload 4, 2) := dk_21 4 (dk_at dksX0_betterOf_1 13 rfl rfl)
theorem dX0_betterOf_39 : decode cX0_betterOf 39 = .ok (.imul, 1) := dk_104 (dk_at dksX0_betterOf_1 15 rfl rfl)
theorem dX0_betterOf_40 : decode cX0_betterOf 40 = .ok (.goto 4, 3) := dk_167 0 4 (dk_at dksX0_betterOf_1 16 rfl rfl)
theorem dX0_betterOf_43 : decode cX0_betterOf 43 = .ok (.iload_n 2, 1) := dk_28 (dk_at dksX0_betterOf_1 19 rfl rfl)
theorem dX0_betterOf_44 : decode cX0_betterOf 44 = .ok (.istore_n 2, 1) := dk_61 (dk_at dksX0_betterOf_1 20 rfl rfl)
theorem dX0_betterOf_45 : decode cX0_betterOf 45 = .ok (.iload_n 3, 1) := dk_29 (dk_at dksX0_betterOf_1 21 rfl rfl)
theorem dX0_betterOf_46 : decode cX0_betterOf 46 = .ok (.iload 5, 2) := dk_21 5 (dk_at dksX0_betterOf_1 22 rfl rfl)
theorem dX0_betterOf_48 : decode cX0_betterOf 48 = .ok (.invokestatic 97, 3) := dk_184 0 97 (dk_at dksX0_betterOf_2 0 rfl rfl)
theorem dX0_betterOf_51 : decode cX0_betterOf 51 = .ok (.istore_n 3, 1) := dk_62 (dk_at dksX0_betterOf_2 3 rfl rfl)
theorem dX0_betterOf_52 : decode cX0_betterOf 52 = .ok (.iinc 4 1, 3) := dk_132 4 1 (dk_at dksX0_betterOf_2 4 rfl rfl)
theorem dX0_betterOf_55 : decode cX0_betterOf 55 = .ok (.goto (-48), 3) := dk_167 255 208 (dk_at dksX0_betterOf_2 7 rfl rfl)
theorem dX0_betterOf_58 : decode cX0_betterOf 58 = .ok (.aload_n 0, 1) := dk_42 (dk_at dksX0_betterOf_2 10 rfl rfl)
theorem dX0_betterOf_59 : decode cX0_betterOf 59 = .ok (.iconst 0, 1) := dk_3 (dk_at dksX0_betterOf_2 11 rfl rfl)
theorem dX0_betterOf_60 : decode cX0_betterOf 60 = .ok (.putfield 24, 3) := dk_181 0 24 (dk_at dksX0_betterOf_2 12 rfl rfl)
theorem dX0_betterOf_63 : decode cX0_betterOf 63 = .ok (.iload_n 1, 1) := dk_27 (dk_at dksX0_betterOf_2 15 rfl rfl)
theorem dX0_betterOf_64 : decode cX0_betterOf 64 = .ok (.ifCond .ne 7, 3) := dk_154 0 7 (dk_at dksX0_betterOf_2 16 rfl rfl)
theorem dX0_betterOf_67 : decode cX0_betterOf 67 = .ok (.iload_n 2, 1) := dk_28 (dk_at dksX0_betterOf_2 19 rfl rfl)
theorem dX0_betterOf_68 : decode cX0_betterOf 68 = .ok (.goto 4, 3) := dk_167 0 4 (dk_at dksX0_betterOf_2 20 rfl rfl)
theorem dX0_betterOf_71 : decode cX0_betterOf 71 = .ok (.iload_n 3, 1) := dk_29 (dk_at dksX0_betterOf_2 23 rfl rfl)
theorem dX0_betterOf_72 : decode cX0_betterOf 72 = .ok (.ireturn, 1) := dk_172 (dk_at dksX0_betterOf_3 0 rfl rfl)
abbrev cX0_confirmedNow : ByteArray := prog_1_method_58_code
def yX0_confirmedNow : MethodName := ⟨RX0, "confirmedNow", "()I"⟩
def dkwX0_confirmedNow_1 : List UInt8 := [160, 0, 7, 3, 167, 0, 4, 4, 96, 60, 132, 2, 1, 167, 255, 225, 27, 172]
abbrev dktX0_confirmedNow_1 : List UInt8 := dkwX0_confirmedNow_1 ++ []
def dkwX0_confirmedNow_0 : List UInt8 := [3, 60, 3, 61, 28, 42, 180, 0, 11, 4, 46, 162, 0, 27, 27, 42, 180, 1, 15, 28, 46, 2]
abbrev dktX0_confirmedNow_0 : List UInt8 := dkwX0_confirmedNow_0 ++ dktX0_confirmedNow_1
theorem dksX0_confirmedNow_0 : cX0_confirmedNow.data.toList.drop 0 = dktX0_confirmedNow_0 := by decide +kernel
theorem dksX0_confirmedNow_1 : cX0_confirmedNow.data.toList.drop 22 = dktX0_confirmedNow_1 := dk_seg dksX0_confirmedNow_0 22 rfl rfl
theorem dX0_confirmedNow_0 : decode cX0_confirmedNow 0 = .ok (.iconst 0, 1) := dk_3 (dk_at dksX0_confirmedNow_0 0 rfl rfl)
theorem dX0_confirmedNow_1 : decode cX0_confirmedNow 1 = .ok (.istore_n 1, 1) := dk_60 (dk_at dksX0_confirmedNow_0 1 rfl rfl)
theorem dX0_confirmedNow_2 : decode cX0_confirmedNow 2 = .ok (.iconst 0, 1) := dk_3 (dk_at dksX0_confirmedNow_0 2 rfl rfl)
theorem dX0_confirmedNow_3 : decode cX0_confirmedNow 3 = .ok (.istore_n 2, 1) := dk_61 (dk_at dksX0_confirmedNow_0 3 rfl rfl)
theorem dX0_confirmedNow_4 : decode cX0_confirmedNow 4 = .ok (.iload_n 2, 1) := dk_28 (dk_at dksX0_confirmedNow_0 4 rfl rfl)
theorem dX0_confirmedNow_5 : decode cX0_confirmedNow 5 = .ok (.aload_n 0, 1) := dk_42 (dk_at dksX0_confirmedNow_0 5 rfl rfl)
theorem dX0_confirmedNow_6 : decode cX0_confirmedNow 6 = .ok (.getfield 11, 3) := dk_180 0 11 (dk_at dksX0_confirmedNow_0 6 rfl rfl)
theorem dX0_confirmedNow_9 : decode cX0_confirmedNow 9 = .ok (.iconst 1, 1) := dk_4 (dk_at dksX0_confirmedNow_0 9 rfl rfl)
theorem dX0_confirmedNow_10 : decode cX0_confirmedNow 10 = .ok (.iaload, 1) := dk_46 (dk_at dksX0_confirmedNow_0 10 rfl rfl)
theorem dX0_confirmedNow_11 : decode cX0_confirmedNow 11 = .ok (.if_icmp .ge 27, 3) := dk_162 0 27 (dk_at dksX0_confirmedNow_0 11 rfl rfl)
theorem dX0_confirmedNow_14 : decode cX0_confirmedNow 14 = .ok (.iload_n 1, 1) := dk_27 (dk_at dksX0_confirmedNow_0 14 rfl rfl)
theorem dX0_confirmedNow_15 : decode cX0_confirmedNow 15 = .ok (.aload_n 0, 1) := dk_42 (dk_at dksX0_confirmedNow_0 15 rfl rfl)
theorem dX0_confirmedNow_16 : decode cX0_confirmedNow 16 = .ok (.getfield 271, 3) := dk_180 1 15 (dk_at dksX0_confirmedNow_0 16 rfl rfl)
theorem dX0_confirmedNow_19 : decode cX0_confirmedNow 19 = .ok (.iload_n 2, 1) := dk_28 (dk_at dksX0_confirmedNow_0 19 rfl rfl)
theorem dX0_confirmedNow_20 : decode cX0_confirmedNow 20 = .ok (.iaload, 1) := dk_46 (dk_at dksX0_confirmedNow_0 20 rfl rfl)
theorem dX0_confirmedNow_21 : decode cX0_confirmedNow 21 = .ok (.iconst (-1), 1) := dk_2 (dk_at dksX0_confirmedNow_0 21 rfl rfl)
theorem dX0_confirmedNow_22 : decode cX0_confirmedNow 22 = .ok (.if_icmp .ne 7, 3) := dk_160 0 7 (dk_at dksX0_confirmedNow_1 0 rfl rfl)
theorem dX0_confirmedNow_25 : decode cX0_confirmedNow 25 = .ok (.iconst 0, 1) := dk_3 (dk_at dksX0_confirmedNow_1 3 rfl rfl)
theorem dX0_confirmedNow_26 : decode cX0_confirmedNow 26 = .ok (.goto 4, 3) := dk_167 0 4 (dk_at dksX0_confirmedNow_1 4 rfl rfl)
theorem dX0_confirmedNow_29 : decode cX0_confirmedNow 29 = .ok (.iconst 1, 1) := dk_4 (dk_at dksX0_confirmedNow_1 7 rfl rfl)
theorem dX0_confirmedNow_30 : decode cX0_confirmedNow 30 = .ok (.iadd, 1) := dk_96 (dk_at dksX0_confirmedNow_1 8 rfl rfl)
theorem dX0_confirmedNow_31 : decode cX0_confirmedNow 31 = .ok (.istore_n 1, 1) := dk_60 (dk_at dksX0_confirmedNow_1 9 rfl rfl)
theorem dX0_confirmedNow_32 : decode cX0_confirmedNow 32 = .ok (.iinc 2 1, 3) := dk_132 2 1 (dk_at dksX0_confirmedNow_1 10 rfl rfl)
theorem dX0_confirmedNow_35 : decode cX0_confirmedNow 35 = .ok (.goto (-31), 3) := dk_167 255 225 (dk_at dksX0_confirmedNow_1 13 rfl rfl)
theorem dX0_confirmedNow_38 : decode cX0_confirmedNow 38 = .ok (.iload_n 1, 1) := dk_27 (dk_at dksX0_confirmedNow_1 16 rfl rfl)
theorem dX0_confirmedNow_39 : decode cX0_confirmedNow 39 = .ok (.ireturn, 1) := dk_172 (dk_at dksX0_confirmedNow_1 17 rfl rfl)
abbrev cX0_spare : ByteArray := prog_1_method_62_code
def yX0_spare : MethodName := ⟨RX0, "spare", "(I)I"⟩
def dkwX0_spare_0 : List UInt8 := [27, 184, 0, 35, 153, 0, 11, 42, 27, 182, 1, 74, 167, 0, 5, 16, 254, 172]
abbrev dktX0_spare_0 : List UInt8 := dkwX0_spare_0 ++ []
theorem dksX0_spare_0 : cX0_spare.data.toList.drop 0 = dktX0_spare_0 := by decide +kernel
theorem dX0_spare_0 : decode cX0_spare 0 = .ok (.iload_n 1, 1) := dk_27 (dk_at dksX0_spare_0 0 rfl rfl)
theorem dX0_spare_1 : decode cX0_spare 1 = .ok (.invokestatic 35, 3) := dk_184 0 35 (dk_at dksX0_spare_0 1 rfl rfl)
theorem dX0_spare_4 : decode cX0_spare 4 = .ok (.ifCond .eq 11, 3) := dk_153 0 11 (dk_at dksX0_spare_0 4 rfl rfl)
theorem dX0_spare_7 : decode cX0_spare 7 = .ok (.aload_n 0, 1) := dk_42 (dk_at dksX0_spare_0 7 rfl rfl)
theorem dX0_spare_8 : decode cX0_spare 8 = .ok (.iload_n 1, 1) := dk_27 (dk_at dksX0_spare_0 8 rfl rfl)
theorem dX0_spare_9 : decode cX0_spare 9 = .ok (.invokevirtual 330, 3) := dk_182 1 74 (dk_at dksX0_spare_0 9 rfl rfl)
theorem dX0_spare_12 : decode cX0_spare 12 = .ok (.goto 5, 3) := dk_167 0 5 (dk_at dksX0_spare_0 12 rfl rfl)
theorem dX0_spare_15 : decode cX0_spare 15 = .ok (.bipush (-2), 2) := dk_16 254 (dk_at dksX0_spare_0 15 rfl rfl)
theorem dX0_spare_17 : decode cX0_spare 17 = .ok (.ireturn, 1) := dk_172 (dk_at dksX0_spare_0 17 rfl rfl)
abbrev cX0_spareOf : ByteArray := prog_1_method_61_code
def yX0_spareOf : MethodName := ⟨RX0, "spareOf", "(I)I"⟩
def dkwX0_spareOf_3 : List UInt8 := [3, 181, 0, 24, 27, 154, 0, 7, 28, 167, 0, 4, 29, 172]
abbrev dktX0_spareOf_3 : List UInt8 := dkwX0_spareOf_3 ++ []
def dkwX0_spareOf_2 : List UInt8 := [167, 0, 4, 28, 61, 29, 21, 5, 184, 0, 97, 62, 132, 4, 1, 167, 255, 200, 42, 2, 181, 0, 191, 42]
abbrev dktX0_spareOf_2 : List UInt8 := dkwX0_spareOf_2 ++ dktX0_spareOf_3
def dkwX0_spareOf_1 : List UInt8 := [42, 42, 180, 0, 130, 4, 46, 182, 1, 41, 42, 182, 1, 68, 54, 5, 21, 5, 29, 164, 0, 8, 21, 4]
abbrev dktX0_spareOf_1 : List UInt8 := dkwX0_spareOf_1 ++ dktX0_spareOf_2
def dkwX0_spareOf_0 : List UInt8 := [2, 61, 2, 62, 3, 54, 4, 21, 4, 42, 180, 0, 11, 4, 46, 162, 0, 51, 42, 21, 4, 181, 0, 191]
abbrev dktX0_spareOf_0 : List UInt8 := dkwX0_spareOf_0 ++ dktX0_spareOf_1
theorem dksX0_spareOf_0 : cX0_spareOf.data.toList.drop 0 = dktX0_spareOf_0 := by decide +kernel
theorem dksX0_spareOf_1 : cX0_spareOf.data.toList.drop 24 = dktX0_spareOf_1 := dk_seg dksX0_spareOf_0 24 rfl rfl
theorem dksX0_spareOf_2 : cX0_spareOf.data.toList.drop 48 = dktX0_spareOf_2 := dk_seg dksX0_spareOf_1 24 rfl rfl
theorem dksX0_spareOf_3 : cX0_spareOf.data.toList.drop 72 = dktX0_spareOf_3 := dk_seg dksX0_spareOf_2 24 rfl rfl
theorem dX0_spareOf_0 : decode cX0_spareOf 0 = .ok (.iconst (-1), 1) := dk_2 (dk_at dksX0_spareOf_0 0 rfl rfl)
theorem dX0_spareOf_1 : decode cX0_spareOf 1 = .ok (.istore_n 2, 1) := dk_61 (dk_at dksX0_spareOf_0 1 rfl rfl)
theorem dX0_spareOf_2 : decode cX0_spareOf 2 = .ok (.iconst (-1), 1) := dk_2 (dk_at dksX0_spareOf_0 2 rfl rfl)
theorem dX0_spareOf_3 : decode cX0_spareOf 3 = .ok (.istore_n 3, 1) := dk_62 (dk_at dksX0_spareOf_0 3 rfl rfl)
theorem dX0_spareOf_4 : decode cX0_spareOf 4 = .ok (.iconst 0, 1) := dk_3 (dk_at dksX0_spareOf_0 4 rfl rfl)
theorem dX0_spareOf_5 : decode cX0_spareOf 5 = .ok (.istore 4, 2) := dk_54 4 (dk_at dksX0_spareOf_0 5 rfl rfl)
theorem dX0_spareOf_7 : decode cX0_spareOf 7 = .ok (.iload 4, 2) := dk_21 4 (dk_at dksX0_spareOf_0 7 rfl rfl)
theorem dX0_spareOf_9 : decode cX0_spareOf 9 = .ok (.aload_n 0, 1) := dk_42 (dk_at dksX0_spareOf_0 9 rfl rfl)
theorem dX0_spareOf_10 : decode cX0_spareOf 10 = .ok (.getfield 11, 3) := dk_180 0 11 (dk_at dksX0_spareOf_0 10 rfl rfl)
theorem dX0_spareOf_13 : decode cX0_spareOf 13 = .ok (.iconst 1, 1) := dk_4 (dk_at dksX0_spareOf_0 13 rfl rfl)
theorem dX0_spareOf_14 : decode cX0_spareOf 14 = .ok (.iaload, 1) := dk_46 (dk_at dksX0_spareOf_0 14 rfl rfl)
theorem dX0_spareOf_15 : decode cX0_spareOf 15 = .ok (.if_icmp .ge 51, 3) := dk_162 0 51 (dk_at dksX0_spareOf_0 15 rfl rfl)
theorem dX0_spareOf_18 : decode cX0_spareOf 18 = .ok (.aload_n 0, 1) := dk_42 (dk_at dksX0_spareOf_0 18 rfl rfl)
theorem dX0_spareOf_19 : decode cX0_spareOf 19 = .ok (.iload 4, 2) := dk_21 4 (dk_at dksX0_spareOf_0 19 rfl rfl)
theorem dX0_spareOf_21 : decode cX0_spareOf 21 = .ok (.putfield 191, 3) := dk_181 0 191 (dk_at dksX0_spareOf_0 21 rfl rfl)
theorem dX0_spareOf_24 : decode cX0_spareOf 24 = .ok (.aload_n 0, 1) := dk_42 (dk_at dksX0_spareOf_1 0 rfl rfl)
theorem dX0_spareOf_25 : decode cX0_spareOf 25 = .ok (.aload_n 0, 1) := dk_42 (dk_at dksX0_spareOf_1 1 rfl rfl)
theorem dX0_spareOf_26 : decode cX0_spareOf 26 = .ok (.getfield 130, 3) := dk_180 0 130 (dk_at dksX0_spareOf_1 2 rfl rfl)
theorem dX0_spareOf_29 : decode cX0_spareOf 29 = .ok (.iconst 1, 1) := dk_4 (dk_at dksX0_spareOf_1 5 rfl rfl)
theorem dX0_spareOf_30 : decode cX0_spareOf 30 = .ok (.iaload, 1) := dk_46 (dk_at dksX0_spareOf_1 6 rfl rfl)
theorem dX0_spareOf_31 : decode cX0_spareOf 31 = .ok (.invokevirtual 297, 3) := dk_182 1 41 (dk_at dksX0_spareOf_1 7 rfl rfl)
theorem dX0_spareOf_34 : decode cX0_spareOf 34 = .ok (.aload_n 0, 1) := dk_42 (dk_at dksX0_spareOf_1 10 rfl rfl)
theorem dX0_spareOf_35 : decode cX0_spareOf 35 = .ok (.invokevirtual 324, 3) := dk_182 1 68 (dk_at dksX0_spareOf_1 11 rfl rfl)
theorem dX0_spareOf_38 : decode cX0_spareOf 38 = .ok (.istore 5, 2) := dk_54 5 (dk_at dksX0_spareOf_1 14 rfl rfl)
theorem dX0_spareOf_40 : decode cX0_spareOf 40 = .ok (.iload 5, 2) := dk_21 5 (dk_at dksX0_spareOf_1 16 rfl rfl)
theorem dX0_spareOf_42 : decode cX0_spareOf 42 = .ok (.iload_n 3, 1) := dk_29 (dk_at dksX0_spareOf_1 18 rfl rfl)
theorem dX0_spareOf_43 : decode cX0_spareOf 43 = .ok (.if_icmp .le 8, 3) := dk_164 0 8 (dk_at dksX0_spareOf_1 19 rfl rfl)
theorem dX0_spareOf_46 : decode cX0_spareOf 46 = .ok (.iload 4, 2) := dk_21 4 (dk_at dksX0_spareOf_1 22 rfl rfl)
theorem dX0_spareOf_48 : decode cX0_spareOf 48 = .ok (.goto 4, 3) := dk_167 0 4 (dk_at dksX0_spareOf_2 0 rfl rfl)
theorem dX0_spareOf_51 : decode cX0_spareOf 51 = .ok (.iload_n 2, 1) := dk_28 (dk_at dksX0_spareOf_2 3 rfl rfl)
theorem dX0_spareOf_52 : decode cX0_spareOf 52 = .ok (.istore_n 2, 1) := dk_61 (dk_at dksX0_spareOf_2 4 rfl rfl)
theorem dX0_spareOf_53 : decode cX0_spareOf 53 = .ok (.iload_n 3, 1) := dk_29 (dk_at dksX0_spareOf_2 5 rfl rfl)
theorem dX0_spareOf_54 : decode cX0_spareOf 54 = .ok (.iload 5, 2) := dk_21 5 (dk_at dksX0_spareOf_2 6 rfl rfl)
theorem dX0_spareOf_56 : decode cX0_spareOf 56 = .ok (.invokestatic 97, 3) := dk_184 0 97 (dk_at dksX0_spareOf_2 8 rfl rfl)
theorem dX0_spareOf_59 : decode cX0_spareOf 59 = .ok (.istore_n 3, 1) := dk_62 (dk_at dksX0_spareOf_2 11 rfl rfl)
theorem dX0_spareOf_60 : decode cX0_spareOf 60 = .ok (.iinc 4 1, 3) := dk_132 4 1 (dk_at dksX0_spareOf_2 12 rfl rfl)
theorem dX0_spareOf_63 : decode cX0_spareOf 63 = .ok (.goto (-56), 3) := dk_167 255 200 (dk_at dksX0_spareOf_2 15 rfl rfl)
theorem dX0_spareOf_66 : decode cX0_spareOf 66 = .ok (.aload_n 0, 1) := dk_42 (dk_at dksX0_spareOf_2 18 rfl rfl)
theorem dX0_spareOf_67 : decode cX0_spareOf 67 = .ok (.iconst (-1), 1) := dk_2 (dk_at dksX0_spareOf_2 19 rfl rfl)
theorem dX0_spareOf_68 : decode cX0_spareOf 68 = .ok (.putfield 191, 3) := dk_181 0 191 (dk_at dksX0_spareOf_2 20 rfl rfl)
theorem dX0_spareOf_71 : decode cX0_spareOf 71 = .ok (.aload_n 0, 1) := dk_42 (dk_at dksX0_spareOf_2 23 rfl rfl)
theorem dX0_spareOf_72 : decode cX0_spareOf 72 = .ok (.iconst 0, 1) := dk_3 (dk_at dksX0_spareOf_3 0 rfl rfl)
theorem dX0_spareOf_73 : decode cX0_spareOf 73 = .ok (.putfield 24, 3) := dk_181 0 24 (dk_at dksX0_spareOf_3 1 rfl rfl)
theorem dX0_spareOf_76 : decode cX0_spareOf 76 = .ok (.iload_n 1, 1) := dk_27 (dk_at dksX0_spareOf_3 4 rfl rfl)
theorem dX0_spareOf_77 : decode cX0_spareOf 77 = .ok (.ifCond .ne 7, 3) := dk_154 0 7 (dk_at dksX0_spareOf_3 5 rfl rfl)
theorem dX0_spareOf_80 : decode cX0_spareOf 80 = .ok (.iload_n 2, 1) := dk_28 (dk_at dksX0_spareOf_3 8 rfl rfl)
theorem dX0_spareOf_81 : decode cX0_spareOf 81 = .ok (.goto 4, 3) := dk_167 0 4 (dk_at dksX0_spareOf_3 9 rfl rfl)
theorem dX0_spareOf_84 : decode cX0_spareOf 84 = .ok (.iload_n 3, 1) := dk_29 (dk_at dksX0_spareOf_3 12 rfl rfl)
theorem dX0_spareOf_85 : decode cX0_spareOf 85 = .ok (.ireturn, 1) := dk_172 (dk_at dksX0_spareOf_3 13 rfl rfl)
abbrev cX0_put : ByteArray := prog_1_method_65_code
def yX0_put : MethodName := ⟨RX0, "put", "(III)I"⟩
def dkwX0_put_1 : List UInt8 := [29, 50, 182, 1, 88, 167, 0, 5, 16, 254, 172]
abbrev dktX0_put_1 : List UInt8 := dkwX0_put_1 ++ []
def dkwX0_put_0 : List UInt8 := [27, 184, 1, 85, 153, 0, 28, 42, 28, 29, 182, 0, 43, 153, 0, 19, 42, 27, 42, 180, 0, 7, 28, 50]
abbrev dktX0_put_0 : List UInt8 := dkwX0_put_0 ++ dktX0_put_1
theorem dksX0_put_0 : cX0_put.data.toList.drop 0 = dktX0_put_0 := by decide +kernel
theorem dksX0_put_1 : cX0_put.data.toList.drop 24 = dktX0_put_1 := dk_seg dksX0_put_0 24 rfl rfl
theorem dX0_put_0 : decode cX0_put 0 = .ok (.iload_n 1, 1) := dk_27 (dk_at dksX0_put_0 0 rfl rfl)
theorem dX0_put_1 : decode cX0_put 1 = .ok (.invokestatic 341, 3) := dk_184 1 85 (dk_at dksX0_put_0 1 rfl rfl)
theorem dX0_put_4 : decode cX0_put 4 = .ok (.ifCond .eq 28, 3) := dk_153 0 28 (dk_at dksX0_put_0 4 rfl rfl)
theorem dX0_put_7 : decode cX0_put 7 = .ok (.aload_n 0, 1) := dk_42 (dk_at dksX0_put_0 7 rfl rfl)
theorem dX0_put_8 : decode cX0_put 8 = .ok (.iload_n 2, 1) := dk_28 (dk_at dksX0_put_0 8 rfl rfl)
theorem dX0_put_9 : decode cX0_put 9 = .ok (.iload_n 3, 1) := dk_29 (dk_at dksX0_put_0 9 rfl rfl)
theorem dX0_put_10 : decode cX0_put 10 = .ok (.invokevirtual 43, 3) := dk_182 0 43 (dk_at dksX0_put_0 10 rfl rfl)
theorem dX0_put_13 : decode cX0_put 13 = .ok (.ifCond .eq 19, 3) := dk_153 0 19 (dk_at dksX0_put_0 13 rfl rfl)
theorem dX0_put_16 : decode cX0_put 16 = .ok (.aload_n 0, 1) := dk_42 (dk_at dksX0_put_0 16 rfl rfl)
theorem dX0_put_17 : decode cX0_put 17 = .ok (.iload_n 1, 1) := dk_27 (dk_at dksX0_put_0 17 rfl rfl)
theorem dX0_put_18 : decode cX0_put 18 = .ok (.aload_n 0, 1) := dk_42 (dk_at dksX0_put_0 18 rfl rfl)
theorem dX0_put_19 : decode cX0_put 19 = .ok (.getfield 7, 3) := dk_180 0 7 (dk_at dksX0_put_0 19 rfl rfl)
theorem dX0_put_22 : decode cX0_put 22 = .ok (.iload_n 2, 1) := dk_28 (dk_at dksX0_put_0 22 rfl rfl)
theorem dX0_put_23 : decode cX0_put 23 = .ok (.aaload, 1) := dk_50 (dk_at dksX0_put_0 23 rfl rfl)
theorem dX0_put_24 : decode cX0_put 24 = .ok (.iload_n 3, 1) := dk_29 (dk_at dksX0_put_1 0 rfl rfl)
theorem dX0_put_25 : decode cX0_put 25 = .ok (.aaload, 1) := dk_50 (dk_at dksX0_put_1 1 rfl rfl)
theorem dX0_put_26 : decode cX0_put 26 = .ok (.invokevirtual 344, 3) := dk_182 1 88 (dk_at dksX0_put_1 2 rfl rfl)
theorem dX0_put_29 : decode cX0_put 29 = .ok (.goto 5, 3) := dk_167 0 5 (dk_at dksX0_put_1 5 rfl rfl)
theorem dX0_put_32 : decode cX0_put 32 = .ok (.bipush (-2), 2) := dk_16 254 (dk_at dksX0_put_1 8 rfl rfl)
theorem dX0_put_34 : decode cX0_put 34 = .ok (.ireturn, 1) := dk_172 (dk_at dksX0_put_1 10 rfl rfl)
abbrev cX0_isTray : ByteArray := prog_1_method_63_code
def yX0_isTray : MethodName := ⟨RX0, "isTray", "(I)Z"⟩
def dkwX0_isTray_0 : List UInt8 := [26, 3, 6, 184, 0, 1, 172]
abbrev dktX0_isTray_0 : List UInt8 := dkwX0_isTray_0 ++ []
theorem dksX0_isTray_0 : cX0_isTray.data.toList.drop 0 = dktX0_isTray_0 := by decide +kernel
theorem dX0_isTray_0 : decode cX0_isTray 0 = .ok (.iload_n 0, 1) := dk_26 (dk_at dksX0_isTray_0 0 rfl rfl)
theorem dX0_isTray_1 : decode cX0_isTray 1 = .ok (.iconst 0, 1) := dk_3 (dk_at dksX0_isTray_0 1 rfl rfl)
theorem dX0_isTray_2 : decode cX0_isTray 2 = .ok (.iconst 3, 1) := dk_6 (dk_at dksX0_isTray_0 2 rfl rfl)
theorem dX0_isTray_3 : decode cX0_isTray 3 = .ok (.invokestatic 1, 3) := dk_184 0 1 (dk_at dksX0_isTray_0 3 rfl rfl)
theorem dX0_isTray_6 : decode cX0_isTray 6 = .ok (.ireturn, 1) := dk_172 (dk_at dksX0_isTray_0 6 rfl rfl)
abbrev cX0_puts : ByteArray := prog_1_method_64_code
def yX0_puts : MethodName := ⟨RX0, "puts", "(ILStarTracker$Body;)I"⟩
def dkwX0_puts_2 : List UInt8 := [42, 180, 1, 77, 27, 46, 172]
abbrev dktX0_puts_2 : List UInt8 := dkwX0_puts_2 ++ []
def dkwX0_puts_1 : List UInt8 := [27, 46, 44, 83, 167, 0, 10, 78, 42, 7, 182, 0, 70, 172, 42, 180, 1, 77, 27, 92, 46, 4, 96, 79]
abbrev dktX0_puts_1 : List UInt8 := dkwX0_puts_1 ++ dktX0_puts_2
def dkwX0_puts_0 : List UInt8 := [42, 180, 1, 77, 27, 46, 16, 8, 160, 0, 6, 16, 252, 172, 42, 180, 1, 80, 27, 50, 42, 180, 1, 77]
abbrev dktX0_puts_0 : List UInt8 := dkwX0_puts_0 ++ dktX0_puts_1
theorem dksX0_puts_0 : cX0_puts.data.toList.drop 0 = dktX0_puts_0 := by decide +kernel
theorem dksX0_puts_1 : cX0_puts.data.toList.drop 24 = dktX0_puts_1 := dk_seg dksX0_puts_0 24 rfl rfl
theorem dksX0_puts_2 : cX0_puts.data.toList.drop 48 = dktX0_puts_2 := dk_seg dksX0_puts_1 24 rfl rfl
theorem dX0_puts_0 : decode cX0_puts 0 = .ok (.aload_n 0, 1) := dk_42 (dk_at dksX0_puts_0 0 rfl rfl)
theorem dX0_puts_1 : decode cX0_puts 1 = .ok (.getfield 333, 3) := dk_180 1 77 (dk_at dksX0_puts_0 1 rfl rfl)
theorem dX0_puts_4 : decode cX0_puts 4 = .ok (.iload_n 1, 1) := dk_27 (dk_at dksX0_puts_0 4 rfl rfl)
theorem dX0_puts_5 : decode cX0_puts 5 = .ok (.iaload, 1) := dk_46 (dk_at dksX0_puts_0 5 rfl rfl)
theorem dX0_puts_6 : decode cX0_puts 6 = .ok (.bipush 8, 2) := dk_16 8 (dk_at dksX0_puts_0 6 rfl rfl)
theorem dX0_puts_8 : decode cX0_puts 8 = .ok (.if_icmp .ne 6, 3) := dk_160 0 6 (dk_at dksX0_puts_0 8 rfl rfl)
theorem dX0_puts_11 : decode cX0_puts 11 = .ok (.bipush (-4), 2) := dk_16 252 (dk_at dksX0_puts_0 11 rfl rfl)
theorem dX0_puts_13 : decode cX0_puts 13 = .ok (.ireturn, 1) := dk_172 (dk_at dksX0_puts_0 13 rfl rfl)
theorem dX0_puts_14 : decode cX0_puts 14 = .ok (.aload_n 0, 1) := dk_42 (dk_at dksX0_puts_0 14 rfl rfl)
theorem dX0_puts_15 : decode cX0_puts 15 = .ok (.getfield 336, 3) := dk_180 1 80 (dk_at dksX0_puts_0 15 rfl rfl)
theorem dX0_puts_18 : decode cX0_puts 18 = .ok (.iload_n 1, 1) := dk_27 (dk_at dksX0_puts_0 18 rfl rfl)
theorem dX0_puts_19 : decode cX0_puts 19 = .ok (.aaload, 1) := dk_50 (dk_at dksX0_puts_0 19 rfl rfl)
theorem dX0_puts_20 : decode cX0_puts 20 = .ok (.aload_n 0, 1) := dk_42 (dk_at dksX0_puts_0 20 rfl rfl)
theorem dX0_puts_21 : decode cX0_puts 21 = .ok (.getfield 333, 3) := dk_180 1 77 (dk_at dksX0_puts_0 21 rfl rfl)
theorem dX0_puts_24 : decode cX0_puts 24 = .ok (.iload_n 1, 1) := dk_27 (dk_at dksX0_puts_1 0 rfl rfl)
theorem dX0_puts_25 : decode cX0_puts 25 = .ok (.iaload, 1) := dk_46 (dk_at dksX0_puts_1 1 rfl rfl)
theorem dX0_puts_26 : decode cX0_puts 26 = .ok (.aload_n 2, 1) := dk_44 (dk_at dksX0_puts_1 2 rfl rfl)
theorem dX0_puts_27 : decode cX0_puts 27 = .ok (.aastore, 1) := dk_83 (dk_at dksX0_puts_1 3 rfl rfl)
theorem dX0_puts_28 : decode cX0_puts 28 = .ok (.goto 10, 3) := dk_167 0 10 (dk_at dksX0_puts_1 4 rfl rfl)
theorem dX0_puts_31 : decode cX0_puts 31 = .ok (.astore_n 3, 1) := dk_78 (dk_at dksX0_puts_1 7 rfl rfl)
theorem dX0_puts_32 : decode cX0_puts 32 = .ok (.aload_n 0, 1) := dk_42 (dk_at dksX0_puts_1 8 rfl rfl)
theorem dX0_puts_33 : decode cX0_puts 33 = .ok (.iconst 4, 1) := dk_7 (dk_at dksX0_puts_1 9 rfl rfl)
theorem dX0_puts_34 : decode cX0_puts 34 = .ok (.invokevirtual 70, 3) := dk_182 0 70 (dk_at dksX0_puts_1 10 rfl rfl)
theorem dX0_puts_37 : decode cX0_puts 37 = .ok (.ireturn, 1) := dk_172 (dk_at dksX0_puts_1 13 rfl rfl)
theorem dX0_puts_38 : decode cX0_puts 38 = .ok (.aload_n 0, 1) := dk_42 (dk_at dksX0_puts_1 14 rfl rfl)
theorem dX0_puts_39 : decode cX0_puts 39 = .ok (.getfield 333, 3) := dk_180 1 77 (dk_at dksX0_puts_1 15 rfl rfl)
theorem dX0_puts_42 : decode cX0_puts 42 = .ok (.iload_n 1, 1) := dk_27 (dk_at dksX0_puts_1 18 rfl rfl)
theorem dX0_puts_43 : decode cX0_puts 43 = .ok (.dup2, 1) := dk_92 (dk_at dksX0_puts_1 19 rfl rfl)
theorem dX0_puts_44 : decode cX0_puts 44 = .ok (.iaload, 1) := dk_46 (dk_at dksX0_puts_1 20 rfl rfl)
theorem dX0_puts_45 : decode cX0_puts 45 = .ok (.iconst 1, 1) := dk_4 (dk_at dksX0_puts_1 21 rfl rfl)
theorem dX0_puts_46 : decode cX0_puts 46 = .ok (.iadd, 1) := dk_96 (dk_at dksX0_puts_1 22 rfl rfl)
theorem dX0_puts_47 : decode cX0_puts 47 = .ok (.iastore, 1) := dk_79 (dk_at dksX0_puts_1 23 rfl rfl)
theorem dX0_puts_48 : decode cX0_puts 48 = .ok (.aload_n 0, 1) := dk_42 (dk_at dksX0_puts_2 0 rfl rfl)
theorem dX0_puts_49 : decode cX0_puts 49 = .ok (.getfield 333, 3) := dk_180 1 77 (dk_at dksX0_puts_2 1 rfl rfl)
theorem dX0_puts_52 : decode cX0_puts 52 = .ok (.iload_n 1, 1) := dk_27 (dk_at dksX0_puts_2 4 rfl rfl)
theorem dX0_puts_53 : decode cX0_puts 53 = .ok (.iaload, 1) := dk_46 (dk_at dksX0_puts_2 5 rfl rfl)
theorem dX0_puts_54 : decode cX0_puts 54 = .ok (.ireturn, 1) := dk_172 (dk_at dksX0_puts_2 6 rfl rfl)
abbrev cX0_fork : ByteArray := prog_1_method_66_code
def yX0_fork : MethodName := ⟨RX0, "fork", "(II)I"⟩
def dkwX0_fork_2 : List UInt8 := [42, 180, 1, 77, 28, 46, 172]
abbrev dktX0_fork_2 : List UInt8 := dkwX0_fork_2 ++ []
def dkwX0_fork_1 : List UInt8 := [180, 1, 80, 27, 50, 182, 1, 92, 192, 1, 93, 83, 42, 180, 1, 77, 28, 42, 180, 1, 77, 27, 46, 79]
abbrev dktX0_fork_1 : List UInt8 := dkwX0_fork_1 ++ dktX0_fork_2
def dkwX0_fork_0 : List UInt8 := [27, 184, 1, 85, 153, 0, 10, 28, 184, 1, 85, 154, 0, 6, 16, 254, 172, 42, 180, 1, 80, 28, 42]
abbrev dktX0_fork_0 : List UInt8 := dkwX0_fork_0 ++ dktX0_fork_1
theorem dksX0_fork_0 : cX0_fork.data.toList.drop 0 = dktX0_fork_0 := by decide +kernel
theorem dksX0_fork_1 : cX0_fork.data.toList.drop 23 = dktX0_fork_1 := dk_seg dksX0_fork_0 23 rfl rfl
theorem dksX0_fork_2 : cX0_fork.data.toList.drop 47 = dktX0_fork_2 := dk_seg dksX0_fork_1 24 rfl rfl
theorem dX0_fork_0 : decode cX0_fork 0 = .ok (.iload_n 1, 1) := dk_27 (dk_at dksX0_fork_0 0 rfl rfl)
theorem dX0_fork_1 : decode cX0_fork 1 = .ok (.invokestatic 341, 3) := dk_184 1 85 (dk_at dksX0_fork_0 1 rfl rfl)
theorem dX0_fork_4 : decode cX0_fork 4 = .ok (.ifCond .eq 10, 3) := dk_153 0 10 (dk_at dksX0_fork_0 4 rfl rfl)
theorem dX0_fork_7 : decode cX0_fork 7 = .ok (.iload_n 2, 1) := dk_28 (dk_at dksX0_fork_0 7 rfl rfl)
theorem dX0_fork_8 : decode cX0_fork 8 = .ok (.invokestatic 341, 3) := dk_184 1 85 (dk_at dksX0_fork_0 8 rfl rfl)
theorem dX0_fork_11 : decode cX0_fork 11 = .ok (.ifCond .ne 6, 3) := dk_154 0 6 (dk_at dksX0_fork_0 11 rfl rfl)
theorem dX0_fork_14 : decode cX0_fork 14 = .ok (.bipush (-2), 2) := dk_16 254 (dk_at dksX0_fork_0 14 rfl rfl)
theorem dX0_fork_16 : decode cX0_fork 16 = .ok (.ireturn, 1) := dk_172 (dk_at dksX0_fork_0 16 rfl rfl)
theorem dX0_fork_17 : decode cX0_fork 17 = .ok (.aload_n 0, 1) := dk_42 (dk_at dksX0_fork_0 17 rfl rfl)
theorem dX0_fork_18 : decode cX0_fork 18 = .ok (.getfield 336, 3) := dk_180 1 80 (dk_at dksX0_fork_0 18 rfl rfl)
theorem dX0_fork_21 : decode cX0_fork 21 = .ok (.iload_n 2, 1) := dk_28 (dk_at dksX0_fork_0 21 rfl rfl)
theorem dX0_fork_22 : decode cX0_fork 22 = .ok (.aload_n 0, 1) := dk_42 (dk_at dksX0_fork_0 22 rfl rfl)
theorem dX0_fork_23 : decode cX0_fork 23 = .ok (.getfield 336, 3) := dk_180 1 80 (dk_at dksX0_fork_1 0 rfl rfl)
theorem dX0_fork_26 : decode cX0_fork 26 = .ok (.iload_n 1, 1) := dk_27 (dk_at dksX0_fork_1 3 rfl rfl)
theorem dX0_fork_27 : decode cX0_fork 27 = .ok (.aaload, 1) := dk_50 (dk_at dksX0_fork_1 4 rfl rfl)
theorem dX0_fork_28 : decode cX0_fork 28 = .ok (.invokevirtual 348, 3) := dk_182 1 92 (dk_at dksX0_fork_1 5 rfl rfl)
theorem dX0_fork_31 : decode cX0_fork 31 = .ok (.checkcast 349, 3) := dk_192 1 93 (dk_at dksX0_fork_1 8 rfl rfl)
theorem dX0_fork_34 : decode cX0_fork 34 = .ok (.aastore, 1) := dk_83 (dk_at dksX0_fork_1 11 rfl rfl)
theorem dX0_fork_35 : decode cX0_fork 35 = .ok (.aload_n 0, 1) := dk_42 (dk_at dksX0_fork_1 12 rfl rfl)
theorem dX0_fork_36 : decode cX0_fork 36 = .ok (.getfield 333, 3) := dk_180 1 77 (dk_at dksX0_fork_1 13 rfl rfl)
theorem dX0_fork_39 : decode cX0_fork 39 = .ok (.iload_n 2, 1) := dk_28 (dk_at dksX0_fork_1 16 rfl rfl)
theorem dX0_fork_40 : decode cX0_fork 40 = .ok (.aload_n 0, 1) := dk_42 (dk_at dksX0_fork_1 17 rfl rfl)
theorem dX0_fork_41 : decode cX0_fork 41 = .ok (.getfield 333, 3) := dk_180 1 77 (dk_at dksX0_fork_1 18 rfl rfl)
theorem dX0_fork_44 : decode cX0_fork 44 = .ok (.iload_n 1, 1) := dk_27 (dk_at dksX0_fork_1 21 rfl rfl)
theorem dX0_fork_45 : decode cX0_fork 45 = .ok (.iaload, 1) := dk_46 (dk_at dksX0_fork_1 22 rfl rfl)
theorem dX0_fork_46 : decode cX0_fork 46 = .ok (.iastore, 1) := dk_79 (dk_at dksX0_fork_1 23 rfl rfl)
theorem dX0_fork_47 : decode cX0_fork 47 = .ok (.aload_n 0, 1) := dk_42 (dk_at dksX0_fork_2 0 rfl rfl)
theorem dX0_fork_48 : decode cX0_fork 48 = .ok (.getfield 333, 3) := dk_180 1 77 (dk_at dksX0_fork_2 1 rfl rfl)
theorem dX0_fork_51 : decode cX0_fork 51 = .ok (.iload_n 2, 1) := dk_28 (dk_at dksX0_fork_2 4 rfl rfl)
theorem dX0_fork_52 : decode cX0_fork 52 = .ok (.iaload, 1) := dk_46 (dk_at dksX0_fork_2 5 rfl rfl)
theorem dX0_fork_53 : decode cX0_fork 53 = .ok (.ireturn, 1) := dk_172 (dk_at dksX0_fork_2 6 rfl rfl)
abbrev cX0_take : ByteArray := prog_1_method_67_code
def yX0_take : MethodName := ⟨RX0, "take", "(I)I"⟩
def dkwX0_take_1 : List UInt8 := [180, 1, 77, 27, 92, 46, 4, 100, 79, 42, 180, 1, 77, 27, 46, 172]
abbrev dktX0_take_1 : List UInt8 := dkwX0_take_1 ++ []
def dkwX0_take_0 : List UInt8 := [27, 184, 1, 85, 154, 0, 6, 16, 254, 172, 42, 180, 1, 77, 27, 46, 154, 0, 6, 16, 253, 172, 42]
abbrev dktX0_take_0 : List UInt8 := dkwX0_take_0 ++ dktX0_take_1
theorem dksX0_take_0 : cX0_take.data.toList.drop 0 = dktX0_take_0 := by decide +kernel
theorem dksX0_take_1 : cX0_take.data.toList.drop 23 = dktX0_take_1 := dk_seg dksX0_take_0 23 rfl rfl
theorem dX0_take_0 : decode cX0_take 0 = .ok (.iload_n 1, 1) := dk_27 (dk_at dksX0_take_0 0 rfl rfl)
theorem dX0_take_1 : decode cX0_take 1 = .ok (.invokestatic 341, 3) := dk_184 1 85 (dk_at dksX0_take_0 1 rfl rfl)
theorem dX0_take_4 : decode cX0_take 4 = .ok (.ifCond .ne 6, 3) := dk_154 0 6 (dk_at dksX0_take_0 4 rfl rfl)
theorem dX0_take_7 : decode cX0_take 7 = .ok (.bipush (-2), 2) := dk_16 254 (dk_at dksX0_take_0 7 rfl rfl)
theorem dX0_take_9 : decode cX0_take 9 = .ok (.ireturn, 1) := dk_172 (dk_at dksX0_take_0 9 rfl rfl)
theorem dX0_take_10 : decode cX0_take 10 = .ok (.aload_n 0, 1) := dk_42 (dk_at dksX0_take_0 10 rfl rfl)
theorem dX0_take_11 : decode cX0_take 11 = .ok (.getfield 333, 3) := dk_180 1 77 (dk_at dksX0_take_0 11 rfl rfl)
theorem dX0_take_14 : decode cX0_take 14 = .ok (.iload_n 1, 1) := dk_27 (dk_at dksX0_take_0 14 rfl rfl)
theorem dX0_take_15 : decode cX0_take 15 = .ok (.iaload, 1) := dk_46 (dk_at dksX0_take_0 15 rfl rfl)
theorem dX0_take_16 : decode cX0_take 16 = .ok (.ifCond .ne 6, 3) := dk_154 0 6 (dk_at dksX0_take_0 16 rfl rfl)
theorem dX0_take_19 : decode cX0_take 19 = .ok (.bipush (-3), 2) := dk_16 253 (dk_at dksX0_take_0 19 rfl rfl)
theorem dX0_take_21 : decode cX0_take 21 = .ok (.ireturn, 1) := dk_172 (dk_at dksX0_take_0 21 rfl rfl)
theorem dX0_take_22 : decode cX0_take 22 = .ok (.aload_n 0, 1) := dk_42 (dk_at dksX0_take_0 22 rfl rfl)
theorem dX0_take_23 : decode cX0_take 23 = .ok (.getfield 333, 3) := dk_180 1 77 (dk_at dksX0_take_1 0 rfl rfl)
theorem dX0_take_26 : decode cX0_take 26 = .ok (.iload_n 1, 1) := dk_27 (dk_at dksX0_take_1 3 rfl rfl)
theorem dX0_take_27 : decode cX0_take 27 = .ok (.dup2, 1) := dk_92 (dk_at dksX0_take_1 4 rfl rfl)
theorem dX0_take_28 : decode cX0_take 28 = .ok (.iaload, 1) := dk_46 (dk_at dksX0_take_1 5 rfl rfl)
theorem dX0_take_29 : decode cX0_take 29 = .ok (.iconst 1, 1) := dk_4 (dk_at dksX0_take_1 6 rfl rfl)
theorem dX0_take_30 : decode cX0_take 30 = .ok (.isub, 1) := dk_100 (dk_at dksX0_take_1 7 rfl rfl)
theorem dX0_take_31 : decode cX0_take 31 = .ok (.iastore, 1) := dk_79 (dk_at dksX0_take_1 8 rfl rfl)
theorem dX0_take_32 : decode cX0_take 32 = .ok (.aload_n 0, 1) := dk_42 (dk_at dksX0_take_1 9 rfl rfl)
theorem dX0_take_33 : decode cX0_take 33 = .ok (.getfield 333, 3) := dk_180 1 77 (dk_at dksX0_take_1 10 rfl rfl)
theorem dX0_take_36 : decode cX0_take 36 = .ok (.iload_n 1, 1) := dk_27 (dk_at dksX0_take_1 13 rfl rfl)
theorem dX0_take_37 : decode cX0_take 37 = .ok (.iaload, 1) := dk_46 (dk_at dksX0_take_1 14 rfl rfl)
theorem dX0_take_38 : decode cX0_take 38 = .ok (.ireturn, 1) := dk_172 (dk_at dksX0_take_1 15 rfl rfl)
abbrev cX0_thing : ByteArray := prog_1_method_70_code
def yX0_thing : MethodName := ⟨RX0, "thing", "(III)I"⟩
def dkwX0_thing_1 : List UInt8 := [29, 184, 1, 104, 167, 0, 5, 18, 56, 172]
abbrev dktX0_thing_1 : List UInt8 := dkwX0_thing_1 ++ []
def dkwX0_thing_0 : List UInt8 := [42, 27, 28, 182, 1, 101, 153, 0, 25, 29, 184, 0, 120, 153, 0, 18, 42, 180, 1, 80, 27, 50, 28, 50]
abbrev dktX0_thing_0 : List UInt8 := dkwX0_thing_0 ++ dktX0_thing_1
theorem dksX0_thing_0 : cX0_thing.data.toList.drop 0 = dktX0_thing_0 := by decide +kernel
theorem dksX0_thing_1 : cX0_thing.data.toList.drop 24 = dktX0_thing_1 := dk_seg dksX0_thing_0 24 rfl rfl
theorem dX0_thing_0 : decode cX0_thing 0 = .ok (.aload_n 0, 1) := dk_42 (dk_at dksX0_thing_0 0 rfl rfl)
theorem dX0_thing_1 : decode cX0_thing 1 = .ok (.iload_n 1, 1) := dk_27 (dk_at dksX0_thing_0 1 rfl rfl)
theorem dX0_thing_2 : decode cX0_thing 2 = .ok (.iload_n 2, 1) := dk_28 (dk_at dksX0_thing_0 2 rfl rfl)
theorem dX0_thing_3 : decode cX0_thing 3 = .ok (.invokevirtual 357, 3) := dk_182 1 101 (dk_at dksX0_thing_0 3 rfl rfl)
theorem dX0_thing_6 : decode cX0_thing 6 = .ok (.ifCond .eq 25, 3) := dk_153 0 25 (dk_at dksX0_thing_0 6 rfl rfl)
theorem dX0_thing_9 : decode cX0_thing 9 = .ok (.iload_n 3, 1) := dk_29 (dk_at dksX0_thing_0 9 rfl rfl)
theorem dX0_thing_10 : decode cX0_thing 10 = .ok (.invokestatic 120, 3) := dk_184 0 120 (dk_at dksX0_thing_0 10 rfl rfl)
theorem dX0_thing_13 : decode cX0_thing 13 = .ok (.ifCond .eq 18, 3) := dk_153 0 18 (dk_at dksX0_thing_0 13 rfl rfl)
theorem dX0_thing_16 : decode cX0_thing 16 = .ok (.aload_n 0, 1) := dk_42 (dk_at dksX0_thing_0 16 rfl rfl)
theorem dX0_thing_17 : decode cX0_thing 17 = .ok (.getfield 336, 3) := dk_180 1 80 (dk_at dksX0_thing_0 17 rfl rfl)
theorem dX0_thing_20 : decode cX0_thing 20 = .ok (.iload_n 1, 1) := dk_27 (dk_at dksX0_thing_0 20 rfl rfl)
theorem dX0_thing_21 : decode cX0_thing 21 = .ok (.aaload, 1) := dk_50 (dk_at dksX0_thing_0 21 rfl rfl)
theorem dX0_thing_22 : decode cX0_thing 22 = .ok (.iload_n 2, 1) := dk_28 (dk_at dksX0_thing_0 22 rfl rfl)
theorem dX0_thing_23 : decode cX0_thing 23 = .ok (.aaload, 1) := dk_50 (dk_at dksX0_thing_0 23 rfl rfl)
theorem dX0_thing_24 : decode cX0_thing 24 = .ok (.iload_n 3, 1) := dk_29 (dk_at dksX0_thing_1 0 rfl rfl)
theorem dX0_thing_25 : decode cX0_thing 25 = .ok (.invokestatic 360, 3) := dk_184 1 104 (dk_at dksX0_thing_1 1 rfl rfl)
theorem dX0_thing_28 : decode cX0_thing 28 = .ok (.goto 5, 3) := dk_167 0 5 (dk_at dksX0_thing_1 4 rfl rfl)
theorem dX0_thing_31 : decode cX0_thing 31 = .ok (.ldc 56, 2) := dk_18 56 (dk_at dksX0_thing_1 7 rfl rfl)
theorem dX0_thing_33 : decode cX0_thing 33 = .ok (.ireturn, 1) := dk_172 (dk_at dksX0_thing_1 9 rfl rfl)
abbrev cX0_isLaid : ByteArray := prog_1_method_68_code
def yX0_isLaid : MethodName := ⟨RX0, "isLaid", "(II)Z"⟩
def dkwX0_isLaid_1 : List UInt8 := [167, 0, 4, 3, 172]
abbrev dktX0_isLaid_1 : List UInt8 := dkwX0_isLaid_1 ++ []
def dkwX0_isLaid_0 : List UInt8 := [27, 184, 1, 85, 153, 0, 23, 28, 3, 42, 180, 1, 77, 27, 46, 4, 100, 184, 0, 1, 153, 0, 7, 4]
abbrev dktX0_isLaid_0 : List UInt8 := dkwX0_isLaid_0 ++ dktX0_isLaid_1
theorem dksX0_isLaid_0 : cX0_isLaid.data.toList.drop 0 = dktX0_isLaid_0 := by decide +kernel
theorem dksX0_isLaid_1 : cX0_isLaid.data.toList.drop 24 = dktX0_isLaid_1 := dk_seg dksX0_isLaid_0 24 rfl rfl
theorem dX0_isLaid_0 : decode cX0_isLaid 0 = .ok (.iload_n 1, 1) := dk_27 (dk_at dksX0_isLaid_0 0 rfl rfl)
theorem dX0_isLaid_1 : decode cX0_isLaid 1 = .ok (.invokestatic 341, 3) := dk_184 1 85 (dk_at dksX0_isLaid_0 1 rfl rfl)
theorem dX0_isLaid_4 : decode cX0_isLaid 4 = .ok (.ifCond .eq 23, 3) := dk_153 0 23 (dk_at dksX0_isLaid_0 4 rfl rfl)
theorem dX0_isLaid_7 : decode cX0_isLaid 7 = .ok (.iload_n 2, 1) := dk_28 (dk_at dksX0_isLaid_0 7 rfl rfl)
theorem dX0_isLaid_8 : decode cX0_isLaid 8 = .ok (.iconst 0, 1) := dk_3 (dk_at dksX0_isLaid_0 8 rfl rfl)
theorem dX0_isLaid_9 : decode cX0_isLaid 9 = .ok (.aload_n 0, 1) := dk_42 (dk_at dksX0_isLaid_0 9 rfl rfl)
theorem dX0_isLaid_10 : decode cX0_isLaid 10 = .ok (.getfield 333, 3) := dk_180 1 77 (dk_at dksX0_isLaid_0 10 rfl rfl)
theorem dX0_isLaid_13 : decode cX0_isLaid 13 = .ok (.iload_n 1, 1) := dk_27 (dk_at dksX0_isLaid_0 13 rfl rfl)
theorem dX0_isLaid_14 : decode cX0_isLaid 14 = .ok (.iaload, 1) := dk_46 (dk_at dksX0_isLaid_0 14 rfl rfl)
theorem dX0_isLaid_15 : decode cX0_isLaid 15 = .ok (.iconst 1, 1) := dk_4 (dk_at dksX0_isLaid_0 15 rfl rfl)
theorem dX0_isLaid_16 : decode cX0_isLaid 16 = .ok (.isub, 1) := dk_100 (dk_at dksX0_isLaid_0 16 rfl rfl)
theorem dX0_isLaid_17 : decode cX0_isLaid 17 = .ok (.invokestatic 1, 3) := dk_184 0 1 (dk_at dksX0_isLaid_0 17 rfl rfl)
theorem dX0_isLaid_20 : decode cX0_isLaid 20 = .ok (.ifCond .eq 7, 3) := dk_153 0 7 (dk_at dksX0_isLaid_0 20 rfl rfl)
theorem dX0_isLaid_23 : decode cX0_isLaid 23 = .ok (.iconst 1, 1) := dk_4 (dk_at dksX0_isLaid_0 23 rfl rfl)
theorem dX0_isLaid_24 : decode cX0_isLaid 24 = .ok (.goto 4, 3) := dk_167 0 4 (dk_at dksX0_isLaid_1 0 rfl rfl)
theorem dX0_isLaid_27 : decode cX0_isLaid 27 = .ok (.iconst 0, 1) := dk_3 (dk_at dksX0_isLaid_1 3 rfl rfl)
theorem dX0_isLaid_28 : decode cX0_isLaid 28 = .ok (.ireturn, 1) := dk_172 (dk_at dksX0_isLaid_1 4 rfl rfl)
abbrev cX0_thingOf : ByteArray := prog_1_method_69_code
def yX0_thingOf : MethodName := ⟨RX0, "thingOf", "(LStarTracker$Body;I)I"⟩
def dkwX0_thingOf_0 : List UInt8 := [27, 154, 0, 10, 42, 182, 1, 98, 167, 0, 10, 42, 27, 4, 100, 182, 0, 50, 172]
abbrev dktX0_thingOf_0 : List UInt8 := dkwX0_thingOf_0 ++ []
theorem dksX0_thingOf_0 : cX0_thingOf.data.toList.drop 0 = dktX0_thingOf_0 := by decide +kernel
theorem dX0_thingOf_0 : decode cX0_thingOf 0 = .ok (.iload_n 1, 1) := dk_27 (dk_at dksX0_thingOf_0 0 rfl rfl)
theorem dX0_thingOf_1 : decode cX0_thingOf 1 = .ok (.ifCond .ne 10, 3) := dk_154 0 10 (dk_at dksX0_thingOf_0 1 rfl rfl)
theorem dX0_thingOf_4 : decode cX0_thingOf 4 = .ok (.aload_n 0, 1) := dk_42 (dk_at dksX0_thingOf_0 4 rfl rfl)
theorem dX0_thingOf_5 : decode cX0_thingOf 5 = .ok (.invokevirtual 354, 3) := dk_182 1 98 (dk_at dksX0_thingOf_0 5 rfl rfl)
theorem dX0_thingOf_8 : decode cX0_thingOf 8 = .ok (.goto 10, 3) := dk_167 0 10 (dk_at dksX0_thingOf_0 8 rfl rfl)
theorem dX0_thingOf_11 : decode cX0_thingOf 11 = .ok (.aload_n 0, 1) := dk_42 (dk_at dksX0_thingOf_0 11 rfl rfl)
theorem dX0_thingOf_12 : decode cX0_thingOf 12 = .ok (.iload_n 1, 1) := dk_27 (dk_at dksX0_thingOf_0 12 rfl rfl)
theorem dX0_thingOf_13 : decode cX0_thingOf 13 = .ok (.iconst 1, 1) := dk_4 (dk_at dksX0_thingOf_0 13 rfl rfl)
theorem dX0_thingOf_14 : decode cX0_thingOf 14 = .ok (.isub, 1) := dk_100 (dk_at dksX0_thingOf_0 14 rfl rfl)
theorem dX0_thingOf_15 : decode cX0_thingOf 15 = .ok (.invokevirtual 50, 3) := dk_182 0 50 (dk_at dksX0_thingOf_0 15 rfl rfl)
theorem dX0_thingOf_18 : decode cX0_thingOf 18 = .ok (.ireturn, 1) := dk_172 (dk_at dksX0_thingOf_0 18 rfl rfl)
abbrev cX0_share : ByteArray := prog_1_method_72_code
def yX0_share : MethodName := ⟨RX0, "share", "(III)I"⟩
def dkwX0_share_1 : List UInt8 := [28, 50, 42, 180, 1, 80, 27, 50, 29, 50, 184, 1, 116, 167, 0, 5, 18, 56, 172]
abbrev dktX0_share_1 : List UInt8 := dkwX0_share_1 ++ []
def dkwX0_share_0 : List UInt8 := [42, 27, 28, 182, 1, 101, 153, 0, 34, 42, 27, 29, 182, 1, 101, 153, 0, 25, 42, 180, 1, 80, 27, 50]
abbrev dktX0_share_0 : List UInt8 := dkwX0_share_0 ++ dktX0_share_1
theorem dksX0_share_0 : cX0_share.data.toList.drop 0 = dktX0_share_0 := by decide +kernel
theorem dksX0_share_1 : cX0_share.data.toList.drop 24 = dktX0_share_1 := dk_seg dksX0_share_0 24 rfl rfl
theorem dX0_share_0 : decode cX0_share 0 = .ok (.aload_n 0, 1) := dk_42 (dk_at dksX0_share_0 0 rfl rfl)
theorem dX0_share_1 : decode cX0_share 1 = .ok (.iload_n 1, 1) := dk_27 (dk_at dksX0_share_0 1 rfl rfl)
theorem dX0_share_2 : decode cX0_share 2 = .ok (.iload_n 2, 1) := dk_28 (dk_at dksX0_share_0 2 rfl rfl)
theorem dX0_share_3 : decode cX0_share 3 = .ok (.invokevirtual 357, 3) := dk_182 1 101 (dk_at dksX0_share_0 3 rfl rfl)
theorem dX0_share_6 : decode cX0_share 6 = .ok (.ifCond .eq 34, 3) := dk_153 0 34 (dk_at dksX0_share_0 6 rfl rfl)
theorem dX0_share_9 : decode cX0_share 9 = .ok (.aload_n 0, 1) := dk_42 (dk_at dksX0_share_0 9 rfl rfl)
theorem dX0_share_10 : decode cX0_share 10 = .ok (.iload_n 1, 1) := dk_27 (dk_at dksX0_share_0 10 rfl rfl)
theorem dX0_share_11 : decode cX0_share 11 = .ok (.iload_n 3, 1) := dk_29 (dk_at dksX0_share_0 11 rfl rfl)
theorem dX0_share_12 : decode cX0_share 12 = .ok (.invokevirtual 357, 3) := dk_182 1 101 (dk_at dksX0_share_0 12 rfl rfl)
theorem dX0_share_15 : decode cX0_share 15 = .ok (.ifCond .eq 25, 3) := dk_153 0 25 (dk_at dksX0_share_0 15 rfl rfl)
theorem dX0_share_18 : decode cX0_share 18 = .ok (.aload_n 0, 1) := dk_42 (dk_at dksX0_share_0 18 rfl rfl)
theorem dX0_share_19 : decode cX0_share 19 = .ok (.getfield 336, 3) := dk_180 1 80 (dk_at dksX0_share_0 19 rfl rfl)
theorem dX0_share_22 : decode cX0_share 22 = .ok (.iload_n 1, 1) := dk_27 (dk_at dksX0_share_0 22 rfl rfl)
theorem dX0_share_23 : decode cX0_share 23 = .ok (.aaload, 1) := dk_50 (dk_at dksX0_share_0 23 rfl rfl)
theorem dX0_share_24 : decode cX0_share 24 = .ok (.iload_n 2, 1) := dk_28 (dk_at dksX0_share_1 0 rfl rfl)
theorem dX0_share_25 : decode cX0_share 25 = .ok (.aaload, 1) := dk_50 (dk_at dksX0_share_1 1 rfl rfl)
theorem dX0_share_26 : decode cX0_share 26 = .ok (.aload_n 0, 1) := dk_42 (dk_at dksX0_share_1 2 rfl rfl)
theorem dX0_share_27 : decode cX0_share 27 = .ok (.getfield 336, 3) := dk_180 1 80 (dk_at dksX0_share_1 3 rfl rfl)
theorem dX0_share_30 : decode cX0_share 30 = .ok (.iload_n 1, 1) := dk_27 (dk_at dksX0_share_1 6 rfl rfl)
theorem dX0_share_31 : decode cX0_share 31 = .ok (.aaload, 1) := dk_50 (dk_at dksX0_share_1 7 rfl rfl)
theorem dX0_share_32 : decode cX0_share 32 = .ok (.iload_n 3, 1) := dk_29 (dk_at dksX0_share_1 8 rfl rfl)
theorem dX0_share_33 : decode cX0_share 33 = .ok (.aaload, 1) := dk_50 (dk_at dksX0_share_1 9 rfl rfl)
theorem dX0_share_34 : decode cX0_share 34 = .ok (.invokestatic 372, 3) := dk_184 1 116 (dk_at dksX0_share_1 10 rfl rfl)
theorem dX0_share_37 : decode cX0_share 37 = .ok (.goto 5, 3) := dk_167 0 5 (dk_at dksX0_share_1 13 rfl rfl)
theorem dX0_share_40 : decode cX0_share 40 = .ok (.ldc 56, 2) := dk_18 56 (dk_at dksX0_share_1 16 rfl rfl)
theorem dX0_share_42 : decode cX0_share 42 = .ok (.ireturn, 1) := dk_172 (dk_at dksX0_share_1 18 rfl rfl)
abbrev cX0_shareOf : ByteArray := prog_1_method_71_code
def yX0_shareOf : MethodName := ⟨RX0, "shareOf", "(LStarTracker$Body;LStarTracker$Body;)I"⟩
def dkwX0_shareOf_0 : List UInt8 := [42, 43, 182, 1, 108, 134, 69, 42, 42, 182, 1, 108, 134, 70, 36, 37, 110, 184, 1, 110, 172]
abbrev dktX0_shareOf_0 : List UInt8 := dkwX0_shareOf_0 ++ []
theorem dksX0_shareOf_0 : cX0_shareOf.data.toList.drop 0 = dktX0_shareOf_0 := by decide +kernel
theorem dX0_shareOf_0 : decode cX0_shareOf 0 = .ok (.aload_n 0, 1) := dk_42 (dk_at dksX0_shareOf_0 0 rfl rfl)
theorem dX0_shareOf_1 : decode cX0_shareOf 1 = .ok (.aload_n 1, 1) := dk_43 (dk_at dksX0_shareOf_0 1 rfl rfl)
theorem dX0_shareOf_2 : decode cX0_shareOf 2 = .ok (.invokevirtual 364, 3) := dk_182 1 108 (dk_at dksX0_shareOf_0 2 rfl rfl)
theorem dX0_shareOf_5 : decode cX0_shareOf 5 = .ok (.i2f, 1) := dk_134 (dk_at dksX0_shareOf_0 5 rfl rfl)
theorem dX0_shareOf_6 : decode cX0_shareOf 6 = .ok (.fstore_n 2, 1) := dk_69 (dk_at dksX0_shareOf_0 6 rfl rfl)
theorem dX0_shareOf_7 : decode cX0_shareOf 7 = .ok (.aload_n 0, 1) := dk_42 (dk_at dksX0_shareOf_0 7 rfl rfl)
theorem dX0_shareOf_8 : decode cX0_shareOf 8 = .ok (.aload_n 0, 1) := dk_42 (dk_at dksX0_shareOf_0 8 rfl rfl)
theorem dX0_shareOf_9 : decode cX0_shareOf 9 = .ok (.invokevirtual 364, 3) := dk_182 1 108 (dk_at dksX0_shareOf_0 9 rfl rfl)
theorem dX0_shareOf_12 : decode cX0_shareOf 12 = .ok (.i2f, 1) := dk_134 (dk_at dksX0_shareOf_0 12 rfl rfl)
theorem dX0_shareOf_13 : decode cX0_shareOf 13 = .ok (.fstore_n 3, 1) := dk_70 (dk_at dksX0_shareOf_0 13 rfl rfl)
theorem dX0_shareOf_14 : decode cX0_shareOf 14 = .ok (.fload_n 2, 1) := dk_36 (dk_at dksX0_shareOf_0 14 rfl rfl)
theorem dX0_shareOf_15 : decode cX0_shareOf 15 = .ok (.fload_n 3, 1) := dk_37 (dk_at dksX0_shareOf_0 15 rfl rfl)
theorem dX0_shareOf_16 : decode cX0_shareOf 16 = .ok (.fdiv, 1) := dk_110 (dk_at dksX0_shareOf_0 16 rfl rfl)
theorem dX0_shareOf_17 : decode cX0_shareOf 17 = .ok (.invokestatic 366, 3) := dk_184 1 110 (dk_at dksX0_shareOf_0 17 rfl rfl)
theorem dX0_shareOf_20 : decode cX0_shareOf 20 = .ok (.ireturn, 1) := dk_172 (dk_at dksX0_shareOf_0 20 rfl rfl)
abbrev cX0_init : ByteArray := prog_1_method_73_code
def yX0_init : MethodName := ⟨RX0, "<init>", "()V"⟩
def dkwX0_init_15 : List UInt8 := [83, 89, 6, 187, 0, 65, 89, 183, 1, 140, 83, 181, 0, 60, 177]
abbrev dktX0_init_15 : List UInt8 := dkwX0_init_15 ++ []
def dkwX0_init_14 : List UInt8 := [89, 183, 1, 140, 83, 89, 4, 187, 0, 65, 89, 183, 1, 140, 83, 89, 5, 187, 0, 65, 89, 183, 1, 140]
abbrev dktX0_init_14 : List UInt8 := dkwX0_init_14 ++ dktX0_init_15
def dkwX0_init_13 : List UInt8 := [189, 0, 51, 83, 181, 1, 80, 42, 7, 188, 10, 181, 1, 77, 42, 7, 189, 0, 65, 89, 3, 187, 0, 65]
abbrev dktX0_init_13 : List UInt8 := dkwX0_init_13 ++ dktX0_init_14
def dkwX0_init_12 : List UInt8 := [189, 0, 15, 83, 89, 4, 16, 8, 189, 0, 21, 83, 89, 5, 16, 8, 189, 0, 51, 83, 89, 6, 16, 8]
abbrev dktX0_init_12 : List UInt8 := dkwX0_init_12 ++ dktX0_init_13
def dkwX0_init_11 : List UInt8 := [6, 188, 11, 181, 0, 221, 42, 16, 12, 188, 10, 181, 1, 34, 42, 7, 189, 1, 93, 89, 3, 16, 8]
abbrev dktX0_init_11 : List UInt8 := dkwX0_init_11 ++ dktX0_init_12
def dkwX0_init_10 : List UInt8 := [197, 1, 138, 2, 181, 0, 252, 42, 16, 8, 188, 10, 181, 1, 15, 42, 16, 8, 188, 10, 181, 1, 18, 42]
abbrev dktX0_init_10 : List UInt8 := dkwX0_init_10 ++ dktX0_init_11
def dkwX0_init_9 : List UInt8 := [197, 1, 139, 2, 181, 0, 245, 42, 6, 6, 197, 1, 139, 2, 181, 0, 249, 42, 16, 12, 6]
abbrev dktX0_init_9 : List UInt8 := dkwX0_init_9 ++ dktX0_init_10
def dkwX0_init_8 : List UInt8 := [181, 0, 198, 42, 16, 8, 188, 10, 181, 0, 204, 42, 16, 8, 188, 10, 181, 0, 210, 42, 6, 6]
abbrev dktX0_init_8 : List UInt8 := dkwX0_init_8 ++ dktX0_init_9
def dkwX0_init_7 : List UInt8 := [197, 1, 138, 2, 181, 0, 156, 42, 2, 181, 0, 191, 42, 6, 188, 10, 181, 0, 166, 42, 16, 8, 188, 10]
abbrev dktX0_init_7 : List UInt8 := dkwX0_init_7 ++ dktX0_init_8
def dkwX0_init_6 : List UInt8 := [188, 10, 181, 0, 85, 42, 6, 188, 10, 181, 0, 140, 42, 6, 188, 10, 181, 0, 173, 42, 16, 8, 16, 12]
abbrev dktX0_init_6 : List UInt8 := dkwX0_init_6 ++ dktX0_init_7
def dkwX0_init_5 : List UInt8 := [17, 1, 144, 79, 89, 4, 17, 0, 200, 79, 89, 5, 4, 79, 89, 6, 16, 20, 79, 181, 0, 130, 42, 6]
abbrev dktX0_init_5 : List UInt8 := dkwX0_init_5 ++ dktX0_init_6
def dkwX0_init_4 : List UInt8 := [16, 8, 189, 0, 51, 83, 181, 0, 7, 42, 5, 188, 10, 181, 0, 11, 42, 7, 188, 10, 89, 3]
abbrev dktX0_init_4 : List UInt8 := dkwX0_init_4 ++ dktX0_init_5
def dkwX0_init_3 : List UInt8 := [186, 1, 135, 0, 0, 181, 0, 229, 42, 5, 189, 1, 93, 89, 3, 16, 12, 189, 0, 51, 83, 89, 4]
abbrev dktX0_init_3 : List UInt8 := dkwX0_init_3 ++ dktX0_init_4
def dkwX0_init_2 : List UInt8 := [186, 1, 131, 0, 0, 183, 1, 127, 83, 181, 0, 100, 42, 186, 1, 132, 0, 0, 181, 0, 176, 42]
abbrev dktX0_init_2 : List UInt8 := dkwX0_init_2 ++ dktX0_init_3
def dkwX0_init_1 : List UInt8 := [89, 4, 187, 0, 105, 89, 186, 1, 130, 0, 0, 183, 1, 127, 83, 89, 5, 187, 0, 105, 89]
abbrev dktX0_init_1 : List UInt8 := dkwX0_init_1 ++ dktX0_init_2
def dkwX0_init_0 : List UInt8 := [42, 183, 1, 120, 42, 6, 189, 0, 105, 89, 3, 187, 0, 105, 89, 186, 1, 124, 0, 0, 183, 1, 127, 83]
abbrev dktX0_init_0 : List UInt8 := dkwX0_init_0 ++ dktX0_init_1
theorem dksX0_init_0 : cX0_init.data.toList.drop 0 = dktX0_init_0 := by decide +kernel
theorem dksX0_init_1 : cX0_init.data.toList.drop 24 = dktX0_init_1 := dk_seg dksX0_init_0 24 rfl rfl
theorem dksX0_init_2 : cX0_init.data.toList.drop 45 = dktX0_init_2 := dk_seg dksX0_init_1 21 rfl rfl
theorem dksX0_init_3 : cX0_init.data.toList.drop 67 = dktX0_init_3 := dk_seg dksX0_init_2 22 rfl rfl
theorem dksX0_init_4 : cX0_init.data.toList.drop 90 = dktX0_init_4 := dk_seg dksX0_init_3 23 rfl rfl
theorem dksX0_init_5 : cX0_init.data.toList.drop 112 = dktX0_init_5 := dk_seg dksX0_init_4 22 rfl rfl
theorem dksX0_init_6 : cX0_init.data.toList.drop 136 = dktX0_init_6 := dk_seg dksX0_init_5 24 rfl rfl
theorem dksX0_init_7 : cX0_init.data.toList.drop 160 = dktX0_init_7 := dk_seg dksX0_init_6 24 rfl rfl
theorem dksX0_init_8 : cX0_init.data.toList.drop 184 = dktX0_init_8 := dk_seg dksX0_init_7 24 rfl rfl
theorem dksX0_init_9 : cX0_init.data.toList.drop 206 = dktX0_init_9 := dk_seg dksX0_init_8 22 rfl rfl
theorem dksX0_init_10 : cX0_init.data.toList.drop 227 = dktX0_init_10 := dk_seg dksX0_init_9 21 rfl rfl
theorem dksX0_init_11 : cX0_init.data.toList.drop 251 = dktX0_init_11 := dk_seg dksX0_init_10 24 rfl rfl
theorem dksX0_init_12 : cX0_init.data.toList.drop 274 = dktX0_init_12 := dk_seg dksX0_init_11 23 rfl rfl
theorem dksX0_init_13 : cX0_init.data.toList.drop 298 = dktX0_init_13 := dk_seg dksX0_init_12 24 rfl rfl
theorem dksX0_init_14 : cX0_init.data.toList.drop 322 = dktX0_init_14 := dk_seg dksX0_init_13 24 rfl rfl
theorem dksX0_init_15 : cX0_init.data.toList.drop 346 = dktX0_init_15 := dk_seg dksX0_init_14 24 rfl rfl
theorem dX0_init_0 : decode cX0_init 0 = .ok (.aload_n 0, 1) := dk_42 (dk_at dksX0_init_0 0 rfl rfl)
theorem dX0_init_1 : decode cX0_init 1 = .ok (.invokespecial 376, 3) := dk_183 1 120 (dk_at dksX0_init_0 1 rfl rfl)
theorem dX0_init_4 : decode cX0_init 4 = .ok (.aload_n 0, 1) := dk_42 (dk_at dksX0_init_0 4 rfl rfl)
theorem dX0_init_5 : decode cX0_init 5 = .ok (.iconst 3, 1) := dk_6 (dk_at dksX0_init_0 5 rfl rfl)
theorem dX0_init_6 : decode cX0_init 6 = .ok (.anewarray 105, 3) := dk_189 0 105 (dk_at dksX0_init_0 6 rfl rfl)
theorem dX0_init_9 : decode cX0_init 9 = .ok (.dup, 1) := dk_89 (dk_at dksX0_init_0 9 rfl rfl)
theorem dX0_init_10 : decode cX0_init 10 = .ok (.iconst 0, 1) := dk_3 (dk_at dksX0_init_0 10 rfl rfl)
theorem dX0_init_11 : decode cX0_init 11 = .ok (.new 105, 3) := dk_187 0 105 (dk_at dksX0_init_0 11 rfl rfl)
theorem dX0_init_14 : decode cX0_init 14 = .ok (.dup, 1) := dk_89 (dk_at dksX0_init_0 14 rfl rfl)
theorem dX0_init_15 : decode cX0_init 15 = .ok (.invokedynamic 380, 5) := by decide +kernel
theorem dX0_init_20 : decode cX0_init 20 = .ok (.invokespecial 383, 3) := dk_183 1 127 (dk_at dksX0_init_0 20 rfl rfl)
theorem dX0_init_23 : decode cX0_init 23 = .ok (.aastore, 1) := dk_83 (dk_at dksX0_init_0 23 rfl rfl)
theorem dX0_init_24 : decode cX0_init 24 = .ok (.dup, 1) := dk_89 (dk_at dksX0_init_1 0 rfl rfl)
theorem dX0_init_25 : decode cX0_init 25 = .ok (.iconst 1, 1) := dk_4 (dk_at dksX0_init_1 1 rfl rfl)
theorem dX0_init_26 : decode cX0_init 26 = .ok (.new 105, 3) := dk_187 0 105 (dk_at dksX0_init_1 2 rfl rfl)
theorem dX0_init_29 : decode cX0_init 29 = .ok (.dup, 1) := dk_89 (dk_at dksX0_init_1 5 rfl rfl)
theorem dX0_init_30 : decode cX0_init 30 = .ok (.invokedynamic 386, 5) := by decide +kernel
theorem dX0_init_35 : decode cX0_init 35 = .ok (.invokespecial 383, 3) := dk_183 1 127 (dk_at dksX0_init_1 11 rfl rfl)
theorem dX0_init_38 : decode cX0_init 38 = .ok (.aastore, 1) := dk_83 (dk_at dksX0_init_1 14 rfl rfl)
theorem dX0_init_39 : decode cX0_init 39 = .ok (.dup, 1) := dk_89 (dk_at dksX0_init_1 15 rfl rfl)
theorem dX0_init_40 : decode cX0_init 40 = .ok (.iconst 2, 1) := dk_5 (dk_at dksX0_init_1 16 rfl rfl)
theorem dX0_init_41 : decode cX0_init 41 = .ok (.new 105, 3) := dk_187 0 105 (dk_at dksX0_init_1 17 rfl rfl)
theorem dX0_init_44 : decode cX0_init 44 = .ok (.dup, 1) := dk_89 (dk_at dksX0_init_1 20 rfl rfl)
theorem dX0_init_45 : decode cX0_init 45 = .ok (.invokedynamic 387, 5) := by decide +kernel
theorem dX0_init_50 : decode cX0_init 50 = .ok (.invokespecial 383, 3) := dk_183 1 127 (dk_at dksX0_init_2 5 rfl rfl)
theorem dX0_init_53 : decode cX0_init 53 = .ok (.aastore, 1) := dk_83 (dk_at dksX0_init_2 8 rfl rfl)
theorem dX0_init_54 : decode cX0_init 54 = .ok (.putfield 100, 3) := dk_181 0 100 (dk_at dksX0_init_2 9 rfl rfl)
theorem dX0_init_57 : decode cX0_init 57 = .ok (.aload_n 0, 1) := dk_42 (dk_at dksX0_init_2 12 rfl rfl)
theorem dX0_init_58 : decode cX0_init 58 = .ok (.invokedynamic 388, 5) := by decide +kernel
theorem dX0_init_63 : decode cX0_init 63 = .ok (.putfield 176, 3) := dk_181 0 176 (dk_at dksX0_init_2 18 rfl rfl)
theorem dX0_init_66 : decode cX0_init 66 = .ok (.aload_n 0, 1) := dk_42 (dk_at dksX0_init_2 21 rfl rfl)
theorem dX0_init_67 : decode cX0_init 67 = .ok (.invokedynamic 391, 5) := by decide +kernel
theorem dX0_init_72 : decode cX0_init 72 = .ok (.putfield 229, 3) := dk_181 0 229 (dk_at dksX0_init_3 5 rfl rfl)
theorem dX0_init_75 : decode cX0_init 75 = .ok (.aload_n 0, 1) := dk_42 (dk_at dksX0_init_3 8 rfl rfl)
theorem dX0_init_76 : decode cX0_init 76 = .ok (.iconst 2, 1) := dk_5 (dk_at dksX0_init_3 9 rfl rfl)
theorem dX0_init_77 : decode cX0_init 77 = .ok (.anewarray 349, 3) := dk_189 1 93 (dk_at dksX0_init_3 10 rfl rfl)
theorem dX0_init_80 : decode cX0_init 80 = .ok (.dup, 1) := dk_89 (dk_at dksX0_init_3 13 rfl rfl)
theorem dX0_init_81 : decode cX0_init 81 = .ok (.iconst 0, 1) := dk_3 (dk_at dksX0_init_3 14 rfl rfl)
theorem dX0_init_82 : decode cX0_init 82 = .ok (.bipush 12, 2) := dk_16 12 (dk_at dksX0_init_3 15 rfl rfl)
theorem dX0_init_84 : decode cX0_init 84 = .ok (.anewarray 51, 3) := dk_189 0 51 (dk_at dksX0_init_3 17 rfl rfl)
theorem dX0_init_87 : decode cX0_init 87 = .ok (.aastore, 1) := dk_83 (dk_at dksX0_init_3 20 rfl rfl)
theorem dX0_init_88 : decode cX0_init 88 = .ok (.dup, 1) := dk_89 (dk_at dksX0_init_3 21 rfl rfl)
theorem dX0_init_89 : decode cX0_init 89 = .ok (.iconst 1, 1) := dk_4 (dk_at dksX0_init_3 22 rfl rfl)
theorem dX0_init_90 : decode cX0_init 90 = .ok (.bipush 8, 2) := dk_16 8 (dk_at dksX0_init_4 0 rfl rfl)
theorem dX0_init_92 : decode cX0_init 92 = .ok (.anewarray 51, 3) := dk_189 0 51 (dk_at dksX0_init_4 2 rfl rfl)
theorem dX0_init_95 : decode cX0_init 95 = .ok (.aastore, 1) := dk_83 (dk_at dksX0_init_4 5 rfl rfl)
theorem dX0_init_96 : decode cX0_init 96 = .ok (.putfield 7, 3) := dk_181 0 7 (dk_at dksX0_init_4 6 rfl rfl)
theorem dX0_init_99 : decode cX0_init 99 = .ok (.aload_n 0, 1) := dk_42 (dk_at dksX0_init_4 9 rfl rfl)
theorem dX0_init_100 : decode cX0_init 100 = .ok (.iconst 2, 1) := dk_5 (dk_at dksX0_init_4 10 rfl rfl)
theorem dX0_init_101 : decode cX0_init 101 = .ok (.newarray .int, 2) := dk_188_10 (dk_at dksX0_init_4 11 rfl rfl)
theorem dX0_init_103 : decode cX0_init 103 = .ok (.putfield 11, 3) := dk_181 0 11 (dk_at dksX0_init_4 13 rfl rfl)
theorem dX0_init_106 : decode cX0_init 106 = .ok (.aload_n 0, 1) := dk_42 (dk_at dksX0_init_4 16 rfl rfl)
theorem dX0_init_107 : decode cX0_init 107 = .ok (.iconst 4, 1) := dk_7 (dk_at dksX0_init_4 17 rfl rfl)
theorem dX0_init_108 : decode cX0_init 108 = .ok (.newarray .int, 2) := dk_188_10 (dk_at dksX0_init_4 18 rfl rfl)
theorem dX0_init_110 : decode cX0_init 110 = .ok (.dup, 1) := dk_89 (dk_at dksX0_init_4 20 rfl rfl)
theorem dX0_init_111 : decode cX0_init 111 = .ok (.iconst 0, 1) := dk_3 (dk_at dksX0_init_4 21 rfl rfl)
theorem dX0_init_112 : decode cX0_init 112 = .ok (.sipush 400, 3) := dk_17 1 144 (dk_at dksX0_init_5 0 rfl rfl)
theorem dX0_init_115 : decode cX0_init 115 = .ok (.iastore, 1) := dk_79 (dk_at dksX0_init_5 3 rfl rfl)
theorem dX0_init_116 : decode cX0_init 116 = .ok (.dup, 1) := dk_89 (dk_at dksX0_init_5 4 rfl rfl)
theorem dX0_init_117 : decode cX0_init 117 = .ok (.iconst 1, 1) := dk_4 (dk_at dksX0_init_5 5 rfl rfl)
theorem dX0_init_118 : decode cX0_init 118 = .ok (.sipush 200, 3) := dk_17 0 200 (dk_at dksX0_init_5 6 rfl rfl)
theorem dX0_init_121 : decode cX0_init 121 = .ok (.iastore, 1) := dk_79 (dk_at dksX0_init_5 9 rfl rfl)
theorem dX0_init_122 : decode cX0_init 122 = .ok (.dup, 1) := dk_89 (dk_at dksX0_init_5 10 rfl rfl)
theorem dX0_init_123 : decode cX0_init 123 = .ok (.iconst 2, 1) := dk_5 (dk_at dksX0_init_5 11 rfl rfl)
theorem dX0_init_124 : decode cX0_init 124 = .ok (.iconst 1, 1) := dk_4 (dk_at dksX0_init_5 12 rfl rfl)
theorem dX0_init_125 : decode cX0_init 125 = .ok (.iastore, 1) := dk_79 (dk_at dksX0_init_5 13 rfl rfl)
theorem dX0_init_126 : decode cX0_init 126 = .ok (.dup, 1) := dk_89 (dk_at dksX0_init_5 14 rfl rfl)
theorem dX0_init_127 : decode cX0_init 127 = .ok (.iconst 3, 1) := dk_6 (dk_at dksX0_init_5 15 rfl rfl)
theorem dX0_init_128 : decode cX0_init 128 = .ok (.bipush 20, 2) := dk_16 20 (dk_at dksX0_init_5 16 rfl rfl)
theorem dX0_init_130 : decode cX0_init 130 = .ok (.iastore, 1) := dk_79 (dk_at dksX0_init_5 18 rfl rfl)
theorem dX0_init_131 : decode cX0_init 131 = .ok (.putfield 130, 3) := dk_181 0 130 (dk_at dksX0_init_5 19 rfl rfl)
theorem dX0_init_134 : decode cX0_init 134 = .ok (.aload_n 0, 1) := dk_42 (dk_at dksX0_init_5 22 rfl rfl)
theorem dX0_init_135 : decode cX0_init 135 = .ok (.iconst 3, 1) := dk_6 (dk_at dksX0_init_5 23 rfl rfl)
theorem dX0_init_136 : decode cX0_init 136 = .ok (.newarray .int, 2) := dk_188_10 (dk_at dksX0_init_6 0 rfl rfl)
theorem dX0_init_138 : decode cX0_init 138 = .ok (.putfield 85, 3) := dk_181 0 85 (dk_at dksX0_init_6 2 rfl rfl)
theorem dX0_init_141 : decode cX0_init 141 = .ok (.aload_n 0, 1) := dk_42 (dk_at dksX0_init_6 5 rfl rfl)
theorem dX0_init_142 : decode cX0_init 142 = .ok (.iconst 3, 1) := dk_6 (dk_at dksX0_init_6 6 rfl rfl)
theorem dX0_init_143 : decode cX0_init 143 = .ok (.newarray .int, 2) := dk_188_10 (dk_at dksX0_init_6 7 rfl rfl)
theorem dX0_init_145 : decode cX0_init 145 = .ok (.putfield 140, 3) := dk_181 0 140 (dk_at dksX0_init_6 9 rfl rfl)
theorem dX0_init_148 : decode cX0_init 148 = .ok (.aload_n 0, 1) := dk_42 (dk_at dksX0_init_6 12 rfl rfl)
theorem dX0_init_149 : decode cX0_init 149 = .ok (.iconst 3, 1) := dk_6 (dk_at dksX0_init_6 13 rfl rfl)
theorem dX0_init_150 : decode cX0_init 150 = .ok (.newarray .int, 2) := dk_188_10 (dk_at dksX0_init_6 14 rfl rfl)
theorem dX0_init_152 : decode cX0_init 152 = .ok (.putfield 173, 3) := dk_181 0 173 (dk_at dksX0_init_6 16 rfl rfl)
theorem dX0_init_155 : decode cX0_init 155 = .ok (.aload_n 0, 1) := dk_42 (dk_at dksX0_init_6 19 rfl rfl)
theorem dX0_init_156 : decode cX0_init 156 = .ok (.bipush 8, 2) := dk_16 8 (dk_at dksX0_init_6 20 rfl rfl)
theorem dX0_init_158 : decode cX0_init 158 = .ok (.bipush 12, 2) := dk_16 12 (dk_at dksX0_init_6 22 rfl rfl)
theorem dX0_init_160 : decode cX0_init 160 = .ok (.multianewarray 394 2, 4) := by decide +kernel
theorem dX0_init_164 : decode cX0_init 164 = .ok (.putfield 156, 3) := dk_181 0 156 (dk_at dksX0_init_7 4 rfl rfl)
theorem dX0_init_167 : decode cX0_init 167 = .ok (.aload_n 0, 1) := dk_42 (dk_at dksX0_init_7 7 rfl rfl)
theorem dX0_init_168 : decode cX0_init 168 = .ok (.iconst (-1), 1) := dk_2 (dk_at dksX0_init_7 8 rfl rfl)
theorem dX0_init_169 : decode cX0_init 169 = .ok (.putfield 191, 3) := dk_181 0 191 (dk_at dksX0_init_7 9 rfl rfl)
theorem dX0_init_172 : decode cX0_init 172 = .ok (.aload_n 0, 1) := dk_42 (dk_at dksX0_init_7 12 rfl rfl)
theorem dX0_init_173 : decode cX0_init 173 = .ok (.iconst 3, 1) := dk_6 (dk_at dksX0_init_7 13 rfl rfl)
theorem dX0_init_174 : decode cX0_init 174 = .ok (.newarray .int, 2) := dk_188_10 (dk_at dksX0_init_7 14 rfl rfl)
theorem dX0_init_176 : decode cX0_init 176 = .ok (.putfield 166, 3) := dk_181 0 166 (dk_at dksX0_init_7 16 rfl rfl)
theorem dX0_init_179 : decode cX0_init 179 = .ok (.aload_n 0, 1) := dk_42 (dk_at dksX0_init_7 19 rfl rfl)
theorem dX0_init_180 : decode cX0_init 180 = .ok (.bipush 8, 2) := dk_16 8 (dk_at dksX0_init_7 20 rfl rfl)
theorem dX0_init_182 : decode cX0_init 182 = .ok (.newarray .int, 2) := dk_188_10 (dk_at dksX0_init_7 22 rfl rfl)
theorem dX0_init_184 : decode cX0_init 184 = .ok (.putfield 198, 3) := dk_181 0 198 (dk_at dksX0_init_8 0 rfl rfl)
theorem dX0_init_187 : decode cX0_init 187 = .ok (.aload_n 0, 1) := dk_42 (dk_at dksX0_init_8 3 rfl rfl)
theorem dX0_init_188 : decode cX0_init 188 = .ok (.bipush 8, 2) := dk_16 8 (dk_at dksX0_init_8 4 rfl rfl)
theorem dX0_init_190 : decode cX0_init 190 = .ok (.newarray .int, 2) := dk_188_10 (dk_at dksX0_init_8 6 rfl rfl)
theorem dX0_init_192 : decode cX0_init 192 = .ok (.putfield 204, 3) := dk_181 0 204 (dk_at dksX0_init_8 8 rfl rfl)
theorem dX0_init_195 : decode cX0_init 195 = .ok (.aload_n 0, 1) := dk_42 (dk_at dksX0_init_8 11 rfl rfl)
theorem dX0_init_196 : decode cX0_init 196 = .ok (.bipush 8, 2) := dk_16 8 (dk_at dksX0_init_8 12 rfl rfl)
theorem dX0_init_198 : decode cX0_init 198 = .ok (.newarray .int, 2) := dk_188_10 (dk_at dksX0_init_8 14 rfl rfl)
theorem dX0_init_200 : decode cX0_init 200 = .ok (.putfield 210, 3) := dk_181 0 210 (dk_at dksX0_init_8 16 rfl rfl)
theorem dX0_init_203 : decode cX0_init 203 = .ok (.aload_n 0, 1) := dk_42 (dk_at dksX0_init_8 19 rfl rfl)
theorem dX0_init_204 : decode cX0_init 204 = .ok (.iconst 3, 1) := dk_6 (dk_at dksX0_init_8 20 rfl rfl)
theorem dX0_init_205 : decode cX0_init 205 = .ok (.iconst 3, 1) := dk_6 (dk_at dksX0_init_8 21 rfl rfl)
theorem dX0_init_206 : decode cX0_init 206 = .ok (.multianewarray 395 2, 4) := by decide +kernel
theorem dX0_init_210 : decode cX0_init 210 = .ok (.putfield 245, 3) := dk_181 0 245 (dk_at dksX0_init_9 4 rfl rfl)
theorem dX0_init_213 : decode cX0_init 213 = .ok (.aload_n 0, 1) := dk_42 (dk_at dksX0_init_9 7 rfl rfl)
theorem dX0_init_214 : decode cX0_init 214 = .ok (.iconst 3, 1) := dk_6 (dk_at dksX0_init_9 8 rfl rfl)
theorem dX0_init_215 : decode cX0_init 215 = .ok (.iconst 3, 1) := dk_6 (dk_at dksX0_init_9 9 rfl rfl)
theorem dX0_init_216 : decode cX0_init 216 = .ok (.multianewarray 395 2, 4) := by decide +kernel
theorem dX0_init_220 : decode cX0_init 220 = .ok (.putfield 249, 3) := dk_181 0 249 (dk_at dksX0_init_9 14 rfl rfl)
theorem dX0_init_223 : decode cX0_init 223 = .ok (.aload_n 0, 1) := dk_42 (dk_at dksX0_init_9 17 rfl rfl)
theorem dX0_init_224 : decode cX0_init 224 = .ok (.bipush 12, 2) := dk_16 12 (dk_at dksX0_init_9 18 rfl rfl)
theorem dX0_init_226 : decode cX0_init 226 = .ok (.iconst 3, 1) := dk_6 (dk_at dksX0_init_9 20 rfl rfl)
theorem dX0_init_227 : decode cX0_init 227 = .ok (.multianewarray 394 2, 4) := by decide +kernel
theorem dX0_init_231 : decode cX0_init 231 = .ok (.putfield 252, 3) := dk_181 0 252 (dk_at dksX0_init_10 4 rfl rfl)
theorem dX0_init_234 : decode cX0_init 234 = .ok (.aload_n 0, 1) := dk_42 (dk_at dksX0_init_10 7 rfl rfl)
theorem dX0_init_235 : decode cX0_init 235 = .ok (.bipush 8, 2) := dk_16 8 (dk_at dksX0_init_10 8 rfl rfl)
theorem dX0_init_237 : decode cX0_init 237 = .ok (.newarray .int, 2) := dk_188_10 (dk_at dksX0_init_10 10 rfl rfl)
theorem dX0_init_239 : decode cX0_init 239 = .ok (.putfield 271, 3) := dk_181 1 15 (dk_at dksX0_init_10 12 rfl rfl)
theorem dX0_init_242 : decode cX0_init 242 = .ok (.aload_n 0, 1) := dk_42 (dk_at dksX0_init_10 15 rfl rfl)
theorem dX0_init_243 : decode cX0_init 243 = .ok (.bipush 8, 2) := dk_16 8 (dk_at dksX0_init_10 16 rfl rfl)
theorem dX0_init_245 : decode cX0_init 245 = .ok (.newarray .int, 2) := dk_188_10 (dk_at dksX0_init_10 18 rfl rfl)
theorem dX0_init_247 : decode cX0_init 247 = .ok (.putfield 274, 3) := dk_181 1 18 (dk_at dksX0_init_10 20 rfl rfl)
theorem dX0_init_250 : decode cX0_init 250 = .ok (.aload_n 0, 1) := dk_42 (dk_at dksX0_init_10 23 rfl rfl)
theorem dX0_init_251 : decode cX0_init 251 = .ok (.iconst 3, 1) := dk_6 (dk_at dksX0_init_11 0 rfl rfl)
theorem dX0_init_252 : decode cX0_init 252 = .ok (.newarray .long, 2) := dk_188_11 (dk_at dksX0_init_11 1 rfl rfl)
theorem dX0_init_254 : decode cX0_init 254 = .ok (.putfield 221, 3) := dk_181 0 221 (dk_at dksX0_init_11 3 rfl rfl)
theorem dX0_init_257 : decode cX0_init 257 = .ok (.aload_n 0, 1) := dk_42 (dk_at dksX0_init_11 6 rfl rfl)
theorem dX0_init_258 : decode cX0_init 258 = .ok (.bipush 12, 2) := dk_16 12 (dk_at dksX0_init_11 7 rfl rfl)
theorem dX0_init_260 : decode cX0_init 260 = .ok (.newarray .int, 2) := dk_188_10 (dk_at dksX0_init_11 9 rfl rfl)
theorem dX0_init_262 : decode cX0_init 262 = .ok (.putfield 290, 3) := dk_181 1 34 (dk_at dksX0_init_11 11 rfl rfl)
theorem dX0_init_265 : decode cX0_init 265 = .ok (.aload_n 0, 1) := dk_42 (dk_at dksX0_init_11 14 rfl rfl)
theorem dX0_init_266 : decode cX0_init 266 = .ok (.iconst 4, 1) := dk_7 (dk_at dksX0_init_11 15 rfl rfl)
theorem dX0_init_267 : decode cX0_init 267 = .ok (.anewarray 349, 3) := dk_189 1 93 (dk_at dksX0_init_11 16 rfl rfl)
theorem dX0_init_270 : decode cX0_init 270 = .ok (.dup, 1) := dk_89 (dk_at dksX0_init_11 19 rfl rfl)
theorem dX0_init_271 : decode cX0_init 271 = .ok (.iconst 0, 1) := dk_3 (dk_at dksX0_init_11 20 rfl rfl)
theorem dX0_init_272 : decode cX0_init 272 = .ok (.bipush 8, 2) := dk_16 8 (dk_at dksX0_init_11 21 rfl rfl)
theorem dX0_init_274 : decode cX0_init 274 = .ok (.anewarray 15, 3) := dk_189 0 15 (dk_at dksX0_init_12 0 rfl rfl)
theorem dX0_init_277 : decode cX0_init 277 = .ok (.aastore, 1) := dk_83 (dk_at dksX0_init_12 3 rfl rfl)
theorem dX0_init_278 : decode cX0_init 278 = .ok (.dup, 1) := dk_89 (dk_at dksX0_init_12 4 rfl rfl)
theorem dX0_init_279 : decode cX0_init 279 = .ok (.iconst 1, 1) := dk_4 (dk_at dksX0_init_12 5 rfl rfl)
theorem dX0_init_280 : decode cX0_init 280 = .ok (.bipush 8, 2) := dk_16 8 (dk_at dksX0_init_12 6 rfl rfl)
theorem dX0_init_282 : decode cX0_init 282 = .ok (.anewarray 21, 3) := dk_189 0 21 (dk_at dksX0_init_12 8 rfl rfl)
theorem dX0_init_285 : decode cX0_init 285 = .ok (.aastore, 1) := dk_83 (dk_at dksX0_init_12 11 rfl rfl)
theorem dX0_init_286 : decode cX0_init 286 = .ok (.dup, 1) := dk_89 (dk_at dksX0_init_12 12 rfl rfl)
theorem dX0_init_287 : decode cX0_init 287 = .ok (.iconst 2, 1) := dk_5 (dk_at dksX0_init_12 13 rfl rfl)
theorem dX0_init_288 : decode cX0_init 288 = .ok (.bipush 8, 2) := dk_16 8 (dk_at dksX0_init_12 14 rfl rfl)
theorem dX0_init_290 : decode cX0_init 290 = .ok (.anewarray 51, 3) := dk_189 0 51 (dk_at dksX0_init_12 16 rfl rfl)
theorem dX0_init_293 : decode cX0_init 293 = .ok (.aastore, 1) := dk_83 (dk_at dksX0_init_12 19 rfl rfl)
theorem dX0_init_294 : decode cX0_init 294 = .ok (.dup, 1) := dk_89 (dk_at dksX0_init_12 20 rfl rfl)
theorem dX0_init_295 : decode cX0_init 295 = .ok (.iconst 3, 1) := dk_6 (dk_at dksX0_init_12 21 rfl rfl)
theorem dX0_init_296 : decode cX0_init 296 = .ok (.bipush 8, 2) := dk_16 8 (dk_at dksX0_init_12 22 rfl rfl)
theorem dX0_init_298 : decode cX0_init 298 = .ok (.anewarray 51, 3) := dk_189 0 51 (dk_at dksX0_init_13 0 rfl rfl)
theorem dX0_init_301 : decode cX0_init 301 = .ok (.aastore, 1) := dk_83 (dk_at dksX0_init_13 3 rfl rfl)
theorem dX0_init_302 : decode cX0_init 302 = .ok (.putfield 336, 3) := dk_181 1 80 (dk_at dksX0_init_13 4 rfl rfl)
theorem dX0_init_305 : decode cX0_init 305 = .ok (.aload_n 0, 1) := dk_42 (dk_at dksX0_init_13 7 rfl rfl)
theorem dX0_init_306 : decode cX0_init 306 = .ok (.iconst 4, 1) := dk_7 (dk_at dksX0_init_13 8 rfl rfl)
theorem dX0_init_307 : decode cX0_init 307 = .ok (.newarray .int, 2) := dk_188_10 (dk_at dksX0_init_13 9 rfl rfl)
theorem dX0_init_309 : decode cX0_init 309 = .ok (.putfield 333, 3) := dk_181 1 77 (dk_at dksX0_init_13 11 rfl rfl)
theorem dX0_init_312 : decode cX0_init 312 = .ok (.aload_n 0, 1) := dk_42 (dk_at dksX0_init_13 14 rfl rfl)
theorem dX0_init_313 : decode cX0_init 313 = .ok (.iconst 4, 1) := dk_7 (dk_at dksX0_init_13 15 rfl rfl)
theorem dX0_init_314 : decode cX0_init 314 = .ok (.anewarray 65, 3) := dk_189 0 65 (dk_at dksX0_init_13 16 rfl rfl)
theorem dX0_init_317 : decode cX0_init 317 = .ok (.dup, 1) := dk_89 (dk_at dksX0_init_13 19 rfl rfl)
theorem dX0_init_318 : decode cX0_init 318 = .ok (.iconst 0, 1) := dk_3 (dk_at dksX0_init_13 20 rfl rfl)
theorem dX0_init_319 : decode cX0_init 319 = .ok (.new 65, 3) := dk_187 0 65 (dk_at dksX0_init_13 21 rfl rfl)
theorem dX0_init_322 : decode cX0_init 322 = .ok (.dup, 1) := dk_89 (dk_at dksX0_init_14 0 rfl rfl)
theorem dX0_init_323 : decode cX0_init 323 = .ok (.invokespecial 396, 3) := dk_183 1 140 (dk_at dksX0_init_14 1 rfl rfl)
theorem dX0_init_326 : decode cX0_init 326 = .ok (.aastore, 1) := dk_83 (dk_at dksX0_init_14 4 rfl rfl)
theorem dX0_init_327 : decode cX0_init 327 = .ok (.dup, 1) := dk_89 (dk_at dksX0_init_14 5 rfl rfl)
theorem dX0_init_328 : decode cX0_init 328 = .ok (.iconst 1, 1) := dk_4 (dk_at dksX0_init_14 6 rfl rfl)
theorem dX0_init_329 : decode cX0_init 329 = .ok (.new 65, 3) := dk_187 0 65 (dk_at dksX0_init_14 7 rfl rfl)
theorem dX0_init_332 : decode cX0_init 332 = .ok (.dup, 1) := dk_89 (dk_at dksX0_init_14 10 rfl rfl)
theorem dX0_init_333 : decode cX0_init 333 = .ok (.invokespecial 396, 3) := dk_183 1 140 (dk_at dksX0_init_14 11 rfl rfl)
theorem dX0_init_336 : decode cX0_init 336 = .ok (.aastore, 1) := dk_83 (dk_at dksX0_init_14 14 rfl rfl)
theorem dX0_init_337 : decode cX0_init 337 = .ok (.dup, 1) := dk_89 (dk_at dksX0_init_14 15 rfl rfl)
theorem dX0_init_338 : decode cX0_init 338 = .ok (.iconst 2, 1) := dk_5 (dk_at dksX0_init_14 16 rfl rfl)
theorem dX0_init_339 : decode cX0_init 339 = .ok (.new 65, 3) := dk_187 0 65 (dk_at dksX0_init_14 17 rfl rfl)
theorem dX0_init_342 : decode cX0_init 342 = .ok (.dup, 1) := dk_89 (dk_at dksX0_init_14 20 rfl rfl)
theorem dX0_init_343 : decode cX0_init 343 = .ok (.invokespecial 396, 3) := dk_183 1 140 (dk_at dksX0_init_14 21 rfl rfl)
theorem dX0_init_346 : decode cX0_init 346 = .ok (.aastore, 1) := dk_83 (dk_at dksX0_init_15 0 rfl rfl)
theorem dX0_init_347 : decode cX0_init 347 = .ok (.dup, 1) := dk_89 (dk_at dksX0_init_15 1 rfl rfl)
theorem dX0_init_348 : decode cX0_init 348 = .ok (.iconst 3, 1) := dk_6 (dk_at dksX0_init_15 2 rfl rfl)
theorem dX0_init_349 : decode cX0_init 349 = .ok (.new 65, 3) := dk_187 0 65 (dk_at dksX0_init_15 3 rfl rfl)
theorem dX0_init_352 : decode cX0_init 352 = .ok (.dup, 1) := dk_89 (dk_at dksX0_init_15 6 rfl rfl)
theorem dX0_init_353 : decode cX0_init 353 = .ok (.invokespecial 396, 3) := dk_183 1 140 (dk_at dksX0_init_15 7 rfl rfl)
theorem dX0_init_356 : decode cX0_init 356 = .ok (.aastore, 1) := dk_83 (dk_at dksX0_init_15 10 rfl rfl)
theorem dX0_init_357 : decode cX0_init 357 = .ok (.putfield 60, 3) := dk_181 0 60 (dk_at dksX0_init_15 11 rfl rfl)
theorem dX0_init_360 : decode cX0_init 360 = .ok (.return_, 1) := dk_177 (dk_at dksX0_init_15 14 rfl rfl)
abbrev cX0_aroundX : ByteArray := prog_1_method_5_code
def yX0_aroundX : MethodName := ⟨RX0, "aroundX", "([I)V"⟩
def dkwX0_aroundX_0 : List UInt8 := [42, 4, 46, 60, 42, 4, 42, 5, 46, 116, 79, 42, 5, 27, 79, 177]
abbrev dktX0_aroundX_0 : List UInt8 := dkwX0_aroundX_0 ++ []
theorem dksX0_aroundX_0 : cX0_aroundX.data.toList.drop 0 = dktX0_aroundX_0 := by decide +kernel
theorem dX0_aroundX_0 : decode cX0_aroundX 0 = .ok (.aload_n 0, 1) := dk_42 (dk_at dksX0_aroundX_0 0 rfl rfl)
theorem dX0_aroundX_1 : decode cX0_aroundX 1 = .ok (.iconst 1, 1) := dk_4 (dk_at dksX0_aroundX_0 1 rfl rfl)
theorem dX0_aroundX_2 : decode cX0_aroundX 2 = .ok (.iaload, 1) := dk_46 (dk_at dksX0_aroundX_0 2 rfl rfl)
theorem dX0_aroundX_3 : decode cX0_aroundX 3 = .ok (.istore_n 1, 1) := dk_60 (dk_at dksX0_aroundX_0 3 rfl rfl)
theorem dX0_aroundX_4 : decode cX0_aroundX 4 = .ok (.aload_n 0, 1) := dk_42 (dk_at dksX0_aroundX_0 4 rfl rfl)
theorem dX0_aroundX_5 : decode cX0_aroundX 5 = .ok (.iconst 1, 1) := dk_4 (dk_at dksX0_aroundX_0 5 rfl rfl)
theorem dX0_aroundX_6 : decode cX0_aroundX 6 = .ok (.aload_n 0, 1) := dk_42 (dk_at dksX0_aroundX_0 6 rfl rfl)
theorem dX0_aroundX_7 : decode cX0_aroundX 7 = .ok (.iconst 2, 1) := dk_5 (dk_at dksX0_aroundX_0 7 rfl rfl)
theorem dX0_aroundX_8 : decode cX0_aroundX 8 = .ok (.iaload, 1) := dk_46 (dk_at dksX0_aroundX_0 8 rfl rfl)
theorem dX0_aroundX_9 : decode cX0_aroundX 9 = .ok (.ineg, 1) := dk_116 (dk_at dksX0_aroundX_0 9 rfl rfl)
theorem dX0_aroundX_10 : decode cX0_aroundX 10 = .ok (.iastore, 1) := dk_79 (dk_at dksX0_aroundX_0 10 rfl rfl)
theorem dX0_aroundX_11 : decode cX0_aroundX 11 = .ok (.aload_n 0, 1) := dk_42 (dk_at dksX0_aroundX_0 11 rfl rfl)
theorem dX0_aroundX_12 : decode cX0_aroundX 12 = .ok (.iconst 2, 1) := dk_5 (dk_at dksX0_aroundX_0 12 rfl rfl)
theorem dX0_aroundX_13 : decode cX0_aroundX 13 = .ok (.iload_n 1, 1) := dk_27 (dk_at dksX0_aroundX_0 13 rfl rfl)
theorem dX0_aroundX_14 : decode cX0_aroundX 14 = .ok (.iastore, 1) := dk_79 (dk_at dksX0_aroundX_0 14 rfl rfl)
theorem dX0_aroundX_15 : decode cX0_aroundX 15 = .ok (.return_, 1) := dk_177 (dk_at dksX0_aroundX_0 15 rfl rfl)
abbrev cX0_aroundY : ByteArray := prog_1_method_6_code
def yX0_aroundY : MethodName := ⟨RX0, "aroundY", "([I)V"⟩
def dkwX0_aroundY_0 : List UInt8 := [42, 3, 46, 60, 42, 3, 42, 5, 46, 79, 42, 5, 27, 116, 79, 177]
abbrev dktX0_aroundY_0 : List UInt8 := dkwX0_aroundY_0 ++ []
theorem dksX0_aroundY_0 : cX0_aroundY.data.toList.drop 0 = dktX0_aroundY_0 := by decide +kernel
theorem dX0_aroundY_0 : decode cX0_aroundY 0 = .ok (.aload_n 0, 1) := dk_42 (dk_at dksX0_aroundY_0 0 rfl rfl)
theorem dX0_aroundY_1 : decode cX0_aroundY 1 = .ok (.iconst 0, 1) := dk_3 (dk_at dksX0_aroundY_0 1 rfl rfl)
theorem dX0_aroundY_2 : decode cX0_aroundY 2 = .ok (.iaload, 1) := dk_46 (dk_at dksX0_aroundY_0 2 rfl rfl)
theorem dX0_aroundY_3 : decode cX0_aroundY 3 = .ok (.istore_n 1, 1) := dk_60 (dk_at dksX0_aroundY_0 3 rfl rfl)
theorem dX0_aroundY_4 : decode cX0_aroundY 4 = .ok (.aload_n 0, 1) := dk_42 (dk_at dksX0_aroundY_0 4 rfl rfl)
theorem dX0_aroundY_5 : decode cX0_aroundY 5 = .ok (.iconst 0, 1) := dk_3 (dk_at dksX0_aroundY_0 5 rfl rfl)
theorem dX0_aroundY_6 : decode cX0_aroundY 6 = .ok (.aload_n 0, 1) := dk_42 (dk_at dksX0_aroundY_0 6 rfl rfl)
theorem dX0_aroundY_7 : decode cX0_aroundY 7 = .ok (.iconst 2, 1) := dk_5 (dk_at dksX0_aroundY_0 7 rfl rfl)
theorem dX0_aroundY_8 : decode cX0_aroundY 8 = .ok (.iaload, 1) := dk_46 (dk_at dksX0_aroundY_0 8 rfl rfl)
theorem dX0_aroundY_9 : decode cX0_aroundY 9 = .ok (.iastore, 1) := dk_79 (dk_at dksX0_aroundY_0 9 rfl rfl)
theorem dX0_aroundY_10 : decode cX0_aroundY 10 = .ok (.aload_n 0, 1) := dk_42 (dk_at dksX0_aroundY_0 10 rfl rfl)
theorem dX0_aroundY_11 : decode cX0_aroundY 11 = .ok (.iconst 2, 1) := dk_5 (dk_at dksX0_aroundY_0 11 rfl rfl)
theorem dX0_aroundY_12 : decode cX0_aroundY 12 = .ok (.iload_n 1, 1) := dk_27 (dk_at dksX0_aroundY_0 12 rfl rfl)
theorem dX0_aroundY_13 : decode cX0_aroundY 13 = .ok (.ineg, 1) := dk_116 (dk_at dksX0_aroundY_0 13 rfl rfl)
theorem dX0_aroundY_14 : decode cX0_aroundY 14 = .ok (.iastore, 1) := dk_79 (dk_at dksX0_aroundY_0 14 rfl rfl)
theorem dX0_aroundY_15 : decode cX0_aroundY 15 = .ok (.return_, 1) := dk_177 (dk_at dksX0_aroundY_0 15 rfl rfl)
abbrev cX0_aroundZ : ByteArray := prog_1_method_7_code
def yX0_aroundZ : MethodName := ⟨RX0, "aroundZ", "([I)V"⟩
def dkwX0_aroundZ_0 : List UInt8 := [42, 3, 46, 60, 42, 3, 42, 4, 46, 116, 79, 42, 4, 27, 79, 177]
abbrev dktX0_aroundZ_0 : List UInt8 := dkwX0_aroundZ_0 ++ []
theorem dksX0_aroundZ_0 : cX0_aroundZ.data.toList.drop 0 = dktX0_aroundZ_0 := by decide +kernel
theorem dX0_aroundZ_0 : decode cX0_aroundZ 0 = .ok (.aload_n 0, 1) := dk_42 (dk_at dksX0_aroundZ_0 0 rfl rfl)
theorem dX0_aroundZ_1 : decode cX0_aroundZ 1 = .ok (.iconst 0, 1) := dk_3 (dk_at dksX0_aroundZ_0 1 rfl rfl)
theorem dX0_aroundZ_2 : decode cX0_aroundZ 2 = .ok (.iaload, 1) := dk_46 (dk_at dksX0_aroundZ_0 2 rfl rfl)
theorem dX0_aroundZ_3 : decode cX0_aroundZ 3 = .ok (.istore_n 1, 1) := dk_60 (dk_at dksX0_aroundZ_0 3 rfl rfl)
theorem dX0_aroundZ_4 : decode cX0_aroundZ 4 = .ok (.aload_n 0, 1) := dk_42 (dk_at dksX0_aroundZ_0 4 rfl rfl)
theorem dX0_aroundZ_5 : decode cX0_aroundZ 5 = .ok (.iconst 0, 1) := dk_3 (dk_at dksX0_aroundZ_0 5 rfl rfl)
theorem dX0_aroundZ_6 : decode cX0_aroundZ 6 = .ok (.aload_n 0, 1) := dk_42 (dk_at dksX0_aroundZ_0 6 rfl rfl)
theorem dX0_aroundZ_7 : decode cX0_aroundZ 7 = .ok (.iconst 1, 1) := dk_4 (dk_at dksX0_aroundZ_0 7 rfl rfl)
theorem dX0_aroundZ_8 : decode cX0_aroundZ 8 = .ok (.iaload, 1) := dk_46 (dk_at dksX0_aroundZ_0 8 rfl rfl)
theorem dX0_aroundZ_9 : decode cX0_aroundZ 9 = .ok (.ineg, 1) := dk_116 (dk_at dksX0_aroundZ_0 9 rfl rfl)
theorem dX0_aroundZ_10 : decode cX0_aroundZ 10 = .ok (.iastore, 1) := dk_79 (dk_at dksX0_aroundZ_0 10 rfl rfl)
theorem dX0_aroundZ_11 : decode cX0_aroundZ 11 = .ok (.aload_n 0, 1) := dk_42 (dk_at dksX0_aroundZ_0 11 rfl rfl)
theorem dX0_aroundZ_12 : decode cX0_aroundZ 12 = .ok (.iconst 1, 1) := dk_4 (dk_at dksX0_aroundZ_0 12 rfl rfl)
theorem dX0_aroundZ_13 : decode cX0_aroundZ 13 = .ok (.iload_n 1, 1) := dk_27 (dk_at dksX0_aroundZ_0 13 rfl rfl)
theorem dX0_aroundZ_14 : decode cX0_aroundZ 14 = .ok (.iastore, 1) := dk_79 (dk_at dksX0_aroundZ_0 14 rfl rfl)
theorem dX0_aroundZ_15 : decode cX0_aroundZ 15 = .ok (.return_, 1) := dk_177 (dk_at dksX0_aroundZ_0 15 rfl rfl)
abbrev cX0_lambda_new_0 : ByteArray := prog_1_method_96_code
def yX0_lambda_new_0 : MethodName := ⟨RX0, "lambda$new$0", "(II)Z"⟩
def dkwX0_lambda_new_0_0 : List UInt8 := [26, 27, 100, 2, 161, 0, 14, 26, 27, 100, 4, 163, 0, 7, 4, 167, 0, 4, 3, 172]
abbrev dktX0_lambda_new_0_0 : List UInt8 := dkwX0_lambda_new_0_0 ++ []
theorem dksX0_lambda_new_0_0 : cX0_lambda_new_0.data.toList.drop 0 = dktX0_lambda_new_0_0 := by decide +kernel
theorem dX0_lambda_new_0_0 : decode cX0_lambda_new_0 0 = .ok (.iload_n 0, 1) := dk_26 (dk_at dksX0_lambda_new_0_0 0 rfl rfl)
theorem dX0_lambda_new_0_1 : decode cX0_lambda_new_0 1 = .ok (.iload_n 1, 1) := dk_27 (dk_at dksX0_lambda_new_0_0 1 rfl rfl)
theorem dX0_lambda_new_0_2 : decode cX0_lambda_new_0 2 = .ok (.isub, 1) := dk_100 (dk_at dksX0_lambda_new_0_0 2 rfl rfl)
theorem dX0_lambda_new_0_3 : decode cX0_lambda_new_0 3 = .ok (.iconst (-1), 1) := dk_2 (dk_at dksX0_lambda_new_0_0 3 rfl rfl)
theorem dX0_lambda_new_0_4 : decode cX0_lambda_new_0 4 = .ok (.if_icmp .lt 14, 3) := dk_161 0 14 (dk_at dksX0_lambda_new_0_0 4 rfl rfl)
theorem dX0_lambda_new_0_7 : decode cX0_lambda_new_0 7 = .ok (.iload_n 0, 1) := dk_26 (dk_at dksX0_lambda_new_0_0 7 rfl rfl)
theorem dX0_lambda_new_0_8 : decode cX0_lambda_new_0 8 = .ok (.iload_n 1, 1) := dk_27 (dk_at dksX0_lambda_new_0_0 8 rfl rfl)
theorem dX0_lambda_new_0_9 : decode cX0_lambda_new_0 9 = .ok (.isub, 1) := dk_100 (dk_at dksX0_lambda_new_0_0 9 rfl rfl)
theorem dX0_lambda_new_0_10 : decode cX0_lambda_new_0 10 = .ok (.iconst 1, 1) := dk_4 (dk_at dksX0_lambda_new_0_0 10 rfl rfl)
theorem dX0_lambda_new_0_11 : decode cX0_lambda_new_0 11 = .ok (.if_icmp .gt 7, 3) := dk_163 0 7 (dk_at dksX0_lambda_new_0_0 11 rfl rfl)
theorem dX0_lambda_new_0_14 : decode cX0_lambda_new_0 14 = .ok (.iconst 1, 1) := dk_4 (dk_at dksX0_lambda_new_0_0 14 rfl rfl)
theorem dX0_lambda_new_0_15 : decode cX0_lambda_new_0 15 = .ok (.goto 4, 3) := dk_167 0 4 (dk_at dksX0_lambda_new_0_0 15 rfl rfl)
theorem dX0_lambda_new_0_18 : decode cX0_lambda_new_0 18 = .ok (.iconst 0, 1) := dk_3 (dk_at dksX0_lambda_new_0_0 18 rfl rfl)
theorem dX0_lambda_new_0_19 : decode cX0_lambda_new_0 19 = .ok (.ireturn, 1) := dk_172 (dk_at dksX0_lambda_new_0_0 19 rfl rfl)
abbrev cX0_lambda_new_1 : ByteArray := prog_1_method_95_code
def yX0_lambda_new_1 : MethodName := ⟨RX0, "lambda$new$1", "([J[J)J"⟩
def dkwX0_lambda_new_1_0 : List UInt8 := [42, 3, 47, 43, 3, 47, 105, 42, 4, 47, 43, 4, 47, 105, 97, 42, 5, 47, 43, 5, 47, 105, 97, 173]
abbrev dktX0_lambda_new_1_0 : List UInt8 := dkwX0_lambda_new_1_0 ++ []
theorem dksX0_lambda_new_1_0 : cX0_lambda_new_1.data.toList.drop 0 = dktX0_lambda_new_1_0 := by decide +kernel
theorem dX0_lambda_new_1_0 : decode cX0_lambda_new_1 0 = .ok (.aload_n 0, 1) := dk_42 (dk_at dksX0_lambda_new_1_0 0 rfl rfl)
theorem dX0_lambda_new_1_1 : decode cX0_lambda_new_1 1 = .ok (.iconst 0, 1) := dk_3 (dk_at dksX0_lambda_new_1_0 1 rfl rfl)
theorem dX0_lambda_new_1_2 : decode cX0_lambda_new_1 2 = .ok (.laload, 1) := dk_47 (dk_at dksX0_lambda_new_1_0 2 rfl rfl)
theorem dX0_lambda_new_1_3 : decode cX0_lambda_new_1 3 = .ok (.aload_n 1, 1) := dk_43 (dk_at dksX0_lambda_new_1_0 3 rfl rfl)
theorem dX0_lambda_new_1_4 : decode cX0_lambda_new_1 4 = .ok (.iconst 0, 1) := dk_3 (dk_at dksX0_lambda_new_1_0 4 rfl rfl)
theorem dX0_lambda_new_1_5 : decode cX0_lambda_new_1 5 = .ok (.laload, 1) := dk_47 (dk_at dksX0_lambda_new_1_0 5 rfl rfl)
theorem dX0_lambda_new_1_6 : decode cX0_lambda_new_1 6 = .ok (.lmul, 1) := dk_105 (dk_at dksX0_lambda_new_1_0 6 rfl rfl)
theorem dX0_lambda_new_1_7 : decode cX0_lambda_new_1 7 = .ok (.aload_n 0, 1) := dk_42 (dk_at dksX0_lambda_new_1_0 7 rfl rfl)
theorem dX0_lambda_new_1_8 : decode cX0_lambda_new_1 8 = .ok (.iconst 1, 1) := dk_4 (dk_at dksX0_lambda_new_1_0 8 rfl rfl)
theorem dX0_lambda_new_1_9 : decode cX0_lambda_new_1 9 = .ok (.laload, 1) := dk_47 (dk_at dksX0_lambda_new_1_0 9 rfl rfl)
theorem dX0_lambda_new_1_10 : decode cX0_lambda_new_1 10 = .ok (.aload_n 1, 1) := dk_43 (dk_at dksX0_lambda_new_1_0 10 rfl rfl)
theorem dX0_lambda_new_1_11 : decode cX0_lambda_new_1 11 = .ok (.iconst 1, 1) := dk_4 (dk_at dksX0_lambda_new_1_0 11 rfl rfl)
theorem dX0_lambda_new_1_12 : decode cX0_lambda_new_1 12 = .ok (.laload, 1) := dk_47 (dk_at dksX0_lambda_new_1_0 12 rfl rfl)
theorem dX0_lambda_new_1_13 : decode cX0_lambda_new_1 13 = .ok (.lmul, 1) := dk_105 (dk_at dksX0_lambda_new_1_0 13 rfl rfl)
theorem dX0_lambda_new_1_14 : decode cX0_lambda_new_1 14 = .ok (.ladd, 1) := dk_97 (dk_at dksX0_lambda_new_1_0 14 rfl rfl)
theorem dX0_lambda_new_1_15 : decode cX0_lambda_new_1 15 = .ok (.aload_n 0, 1) := dk_42 (dk_at dksX0_lambda_new_1_0 15 rfl rfl)
theorem dX0_lambda_new_1_16 : decode cX0_lambda_new_1 16 = .ok (.iconst 2, 1) := dk_5 (dk_at dksX0_lambda_new_1_0 16 rfl rfl)
theorem dX0_lambda_new_1_17 : decode cX0_lambda_new_1 17 = .ok (.laload, 1) := dk_47 (dk_at dksX0_lambda_new_1_0 17 rfl rfl)
theorem dX0_lambda_new_1_18 : decode cX0_lambda_new_1 18 = .ok (.aload_n 1, 1) := dk_43 (dk_at dksX0_lambda_new_1_0 18 rfl rfl)
theorem dX0_lambda_new_1_19 : decode cX0_lambda_new_1 19 = .ok (.iconst 2, 1) := dk_5 (dk_at dksX0_lambda_new_1_0 19 rfl rfl)
theorem dX0_lambda_new_1_20 : decode cX0_lambda_new_1 20 = .ok (.laload, 1) := dk_47 (dk_at dksX0_lambda_new_1_0 20 rfl rfl)
theorem dX0_lambda_new_1_21 : decode cX0_lambda_new_1 21 = .ok (.lmul, 1) := dk_105 (dk_at dksX0_lambda_new_1_0 21 rfl rfl)
theorem dX0_lambda_new_1_22 : decode cX0_lambda_new_1 22 = .ok (.ladd, 1) := dk_97 (dk_at dksX0_lambda_new_1_0 22 rfl rfl)
theorem dX0_lambda_new_1_23 : decode cX0_lambda_new_1 23 = .ok (.lreturn, 1) := dk_173 (dk_at dksX0_lambda_new_1_0 23 rfl rfl)
abbrev cX0_sheet : ByteArray := prog_1_method_77_code
def yX0_sheet : MethodName := ⟨RX0, "sheet", "(III)I"⟩
def dkwX0_sheet_2 : List UInt8 := [182, 0, 70, 172, 42, 180, 0, 60, 27, 50, 28, 181, 1, 150, 29, 172]
abbrev dktX0_sheet_2 : List UInt8 := dkwX0_sheet_2 ++ []
def dkwX0_sheet_1 : List UInt8 := [172, 42, 180, 0, 60, 27, 50, 28, 29, 184, 1, 144, 181, 0, 64, 167, 0, 11, 58, 4, 42, 8]
abbrev dktX0_sheet_1 : List UInt8 := dkwX0_sheet_1 ++ dktX0_sheet_2
def dkwX0_sheet_0 : List UInt8 := [27, 184, 0, 57, 153, 0, 18, 28, 3, 5, 184, 0, 1, 153, 0, 9, 29, 16, 60, 164, 0, 6, 16, 254]
abbrev dktX0_sheet_0 : List UInt8 := dkwX0_sheet_0 ++ dktX0_sheet_1
theorem dksX0_sheet_0 : cX0_sheet.data.toList.drop 0 = dktX0_sheet_0 := by decide +kernel
theorem dksX0_sheet_1 : cX0_sheet.data.toList.drop 24 = dktX0_sheet_1 := dk_seg dksX0_sheet_0 24 rfl rfl
theorem dksX0_sheet_2 : cX0_sheet.data.toList.drop 46 = dktX0_sheet_2 := dk_seg dksX0_sheet_1 22 rfl rfl
theorem dX0_sheet_0 : decode cX0_sheet 0 = .ok (.iload_n 1, 1) := dk_27 (dk_at dksX0_sheet_0 0 rfl rfl)
theorem dX0_sheet_1 : decode cX0_sheet 1 = .ok (.invokestatic 57, 3) := dk_184 0 57 (dk_at dksX0_sheet_0 1 rfl rfl)
theorem dX0_sheet_4 : decode cX0_sheet 4 = .ok (.ifCond .eq 18, 3) := dk_153 0 18 (dk_at dksX0_sheet_0 4 rfl rfl)
theorem dX0_sheet_7 : decode cX0_sheet 7 = .ok (.iload_n 2, 1) := dk_28 (dk_at dksX0_sheet_0 7 rfl rfl)
theorem dX0_sheet_8 : decode cX0_sheet 8 = .ok (.iconst 0, 1) := dk_3 (dk_at dksX0_sheet_0 8 rfl rfl)
theorem dX0_sheet_9 : decode cX0_sheet 9 = .ok (.iconst 2, 1) := dk_5 (dk_at dksX0_sheet_0 9 rfl rfl)
theorem dX0_sheet_10 : decode cX0_sheet 10 = .ok (.invokestatic 1, 3) := dk_184 0 1 (dk_at dksX0_sheet_0 10 rfl rfl)
theorem dX0_sheet_13 : decode cX0_sheet 13 = .ok (.ifCond .eq 9, 3) := dk_153 0 9 (dk_at dksX0_sheet_0 13 rfl rfl)
theorem dX0_sheet_16 : decode cX0_sheet 16 = .ok (.iload_n 3, 1) := dk_29 (dk_at dksX0_sheet_0 16 rfl rfl)
theorem dX0_sheet_17 : decode cX0_sheet 17 = .ok (.bipush 60, 2) := dk_16 60 (dk_at dksX0_sheet_0 17 rfl rfl)
theorem dX0_sheet_19 : decode cX0_sheet 19 = .ok (.if_icmp .le 6, 3) := dk_164 0 6 (dk_at dksX0_sheet_0 19 rfl rfl)
theorem dX0_sheet_22 : decode cX0_sheet 22 = .ok (.bipush (-2), 2) := dk_16 254 (dk_at dksX0_sheet_0 22 rfl rfl)
theorem dX0_sheet_24 : decode cX0_sheet 24 = .ok (.ireturn, 1) := dk_172 (dk_at dksX0_sheet_1 0 rfl rfl)
theorem dX0_sheet_25 : decode cX0_sheet 25 = .ok (.aload_n 0, 1) := dk_42 (dk_at dksX0_sheet_1 1 rfl rfl)
theorem dX0_sheet_26 : decode cX0_sheet 26 = .ok (.getfield 60, 3) := dk_180 0 60 (dk_at dksX0_sheet_1 2 rfl rfl)
theorem dX0_sheet_29 : decode cX0_sheet 29 = .ok (.iload_n 1, 1) := dk_27 (dk_at dksX0_sheet_1 5 rfl rfl)
theorem dX0_sheet_30 : decode cX0_sheet 30 = .ok (.aaload, 1) := dk_50 (dk_at dksX0_sheet_1 6 rfl rfl)
theorem dX0_sheet_31 : decode cX0_sheet 31 = .ok (.iload_n 2, 1) := dk_28 (dk_at dksX0_sheet_1 7 rfl rfl)
theorem dX0_sheet_32 : decode cX0_sheet 32 = .ok (.iload_n 3, 1) := dk_29 (dk_at dksX0_sheet_1 8 rfl rfl)
theorem dX0_sheet_33 : decode cX0_sheet 33 = .ok (.invokestatic 400, 3) := dk_184 1 144 (dk_at dksX0_sheet_1 9 rfl rfl)
theorem dX0_sheet_36 : decode cX0_sheet 36 = .ok (.putfield 64, 3) := dk_181 0 64 (dk_at dksX0_sheet_1 12 rfl rfl)
theorem dX0_sheet_39 : decode cX0_sheet 39 = .ok (.goto 11, 3) := dk_167 0 11 (dk_at dksX0_sheet_1 15 rfl rfl)
theorem dX0_sheet_42 : decode cX0_sheet 42 = .ok (.astore 4, 2) := dk_58 4 (dk_at dksX0_sheet_1 18 rfl rfl)
theorem dX0_sheet_44 : decode cX0_sheet 44 = .ok (.aload_n 0, 1) := dk_42 (dk_at dksX0_sheet_1 20 rfl rfl)
theorem dX0_sheet_45 : decode cX0_sheet 45 = .ok (.iconst 5, 1) := dk_8 (dk_at dksX0_sheet_1 21 rfl rfl)
theorem dX0_sheet_46 : decode cX0_sheet 46 = .ok (.invokevirtual 70, 3) := dk_182 0 70 (dk_at dksX0_sheet_2 0 rfl rfl)
theorem dX0_sheet_49 : decode cX0_sheet 49 = .ok (.ireturn, 1) := dk_172 (dk_at dksX0_sheet_2 3 rfl rfl)
theorem dX0_sheet_50 : decode cX0_sheet 50 = .ok (.aload_n 0, 1) := dk_42 (dk_at dksX0_sheet_2 4 rfl rfl)
theorem dX0_sheet_51 : decode cX0_sheet 51 = .ok (.getfield 60, 3) := dk_180 0 60 (dk_at dksX0_sheet_2 5 rfl rfl)
theorem dX0_sheet_54 : decode cX0_sheet 54 = .ok (.iload_n 1, 1) := dk_27 (dk_at dksX0_sheet_2 8 rfl rfl)
theorem dX0_sheet_55 : decode cX0_sheet 55 = .ok (.aaload, 1) := dk_50 (dk_at dksX0_sheet_2 9 rfl rfl)
theorem dX0_sheet_56 : decode cX0_sheet 56 = .ok (.iload_n 2, 1) := dk_28 (dk_at dksX0_sheet_2 10 rfl rfl)
theorem dX0_sheet_57 : decode cX0_sheet 57 = .ok (.putfield 406, 3) := dk_181 1 150 (dk_at dksX0_sheet_2 11 rfl rfl)
theorem dX0_sheet_60 : decode cX0_sheet 60 = .ok (.iload_n 3, 1) := dk_29 (dk_at dksX0_sheet_2 14 rfl rfl)
theorem dX0_sheet_61 : decode cX0_sheet 61 = .ok (.ireturn, 1) := dk_172 (dk_at dksX0_sheet_2 15 rfl rfl)
abbrev cX0_rowOf : ByteArray := prog_1_method_76_code
def yX0_rowOf : MethodName := ⟨RX0, "rowOf", "(II)Ljava/lang/Object;"⟩
def dkwX0_rowOf_2 : List UInt8 := [27, 188, 8, 176, 27, 188, 9, 176, 27, 188, 10, 176]
abbrev dktX0_rowOf_2 : List UInt8 := dkwX0_rowOf_2 ++ []
def dkwX0_rowOf_1 : List UInt8 := [171, 0, 0, 0, 0, 0, 35, 0, 0, 0, 2, 0, 0, 0, 0, 0, 0, 0, 27, 0, 0, 0, 1, 0, 0, 0, 31]
abbrev dktX0_rowOf_1 : List UInt8 := dkwX0_rowOf_1 ++ dktX0_rowOf_2
def dkwX0_rowOf_0 : List UInt8 := [26]
abbrev dktX0_rowOf_0 : List UInt8 := dkwX0_rowOf_0 ++ dktX0_rowOf_1
theorem dksX0_rowOf_0 : cX0_rowOf.data.toList.drop 0 = dktX0_rowOf_0 := by decide +kernel
theorem dksX0_rowOf_1 : cX0_rowOf.data.toList.drop 1 = dktX0_rowOf_1 := dk_seg dksX0_rowOf_0 1 rfl rfl
theorem dksX0_rowOf_2 : cX0_rowOf.data.toList.drop 28 = dktX0_rowOf_2 := dk_seg dksX0_rowOf_1 27 rfl rfl
theorem dX0_rowOf_0 : decode cX0_rowOf 0 = .ok (.iload_n 0, 1) := dk_26 (dk_at dksX0_rowOf_0 0 rfl rfl)
theorem dX0_rowOf_1 : decode cX0_rowOf 1 = .ok (.lookupswitch 35 #[(0, 27), (1, 31)], 27) := by decide +kernel
theorem dX0_rowOf_28 : decode cX0_rowOf 28 = .ok (.iload_n 1, 1) := dk_27 (dk_at dksX0_rowOf_2 0 rfl rfl)
theorem dX0_rowOf_29 : decode cX0_rowOf 29 = .ok (.newarray .byte, 2) := dk_188_8 (dk_at dksX0_rowOf_2 1 rfl rfl)
theorem dX0_rowOf_31 : decode cX0_rowOf 31 = .ok (.areturn, 1) := dk_176 (dk_at dksX0_rowOf_2 3 rfl rfl)
theorem dX0_rowOf_32 : decode cX0_rowOf 32 = .ok (.iload_n 1, 1) := dk_27 (dk_at dksX0_rowOf_2 4 rfl rfl)
theorem dX0_rowOf_33 : decode cX0_rowOf 33 = .ok (.newarray .short, 2) := dk_188_9 (dk_at dksX0_rowOf_2 5 rfl rfl)
theorem dX0_rowOf_35 : decode cX0_rowOf 35 = .ok (.areturn, 1) := dk_176 (dk_at dksX0_rowOf_2 7 rfl rfl)
theorem dX0_rowOf_36 : decode cX0_rowOf 36 = .ok (.iload_n 1, 1) := dk_27 (dk_at dksX0_rowOf_2 8 rfl rfl)
theorem dX0_rowOf_37 : decode cX0_rowOf 37 = .ok (.newarray .int, 2) := dk_188_10 (dk_at dksX0_rowOf_2 9 rfl rfl)
theorem dX0_rowOf_39 : decode cX0_rowOf 39 = .ok (.areturn, 1) := dk_176 (dk_at dksX0_rowOf_2 11 rfl rfl)
abbrev cX0_lose : ByteArray := prog_1_method_78_code
def yX0_lose : MethodName := ⟨RX0, "lose", "(I)I"⟩
def dkwX0_lose_2 : List UInt8 := [28, 172]
abbrev dktX0_lose_2 : List UInt8 := dkwX0_lose_2 ++ []
def dkwX0_lose_1 : List UInt8 := [182, 0, 70, 172, 42, 180, 0, 60, 27, 50, 182, 0, 73, 61, 42, 180, 0, 60, 27, 50, 1, 181, 0, 64]
abbrev dktX0_lose_1 : List UInt8 := dkwX0_lose_1 ++ dktX0_lose_2
def dkwX0_lose_0 : List UInt8 := [27, 184, 0, 57, 154, 0, 6, 16, 254, 172, 42, 180, 0, 60, 27, 50, 180, 0, 64, 199, 0, 9, 42, 4]
abbrev dktX0_lose_0 : List UInt8 := dkwX0_lose_0 ++ dktX0_lose_1
theorem dksX0_lose_0 : cX0_lose.data.toList.drop 0 = dktX0_lose_0 := by decide +kernel
theorem dksX0_lose_1 : cX0_lose.data.toList.drop 24 = dktX0_lose_1 := dk_seg dksX0_lose_0 24 rfl rfl
theorem dksX0_lose_2 : cX0_lose.data.toList.drop 48 = dktX0_lose_2 := dk_seg dksX0_lose_1 24 rfl rfl
theorem dX0_lose_0 : decode cX0_lose 0 = .ok (.iload_n 1, 1) := dk_27 (dk_at dksX0_lose_0 0 rfl rfl)
theorem dX0_lose_1 : decode cX0_lose 1 = .ok (.invokestatic 57, 3) := dk_184 0 57 (dk_at dksX0_lose_0 1 rfl rfl)
theorem dX0_lose_4 : decode cX0_lose 4 = .ok (.ifCond .ne 6, 3) := dk_154 0 6 (dk_at dksX0_lose_0 4 rfl rfl)
theorem dX0_lose_7 : decode cX0_lose 7 = .ok (.bipush (-2), 2) := dk_16 254 (dk_at dksX0_lose_0 7 rfl rfl)
theorem dX0_lose_9 : decode cX0_lose 9 = .ok (.ireturn, 1) := dk_172 (dk_at dksX0_lose_0 9 rfl rfl)
theorem dX0_lose_10 : decode cX0_lose 10 = .ok (.aload_n 0, 1) := dk_42 (dk_at dksX0_lose_0 10 rfl rfl)
theorem dX0_lose_11 : decode cX0_lose 11 = .ok (.getfield 60, 3) := dk_180 0 60 (dk_at dksX0_lose_0 11 rfl rfl)
theorem dX0_lose_14 : decode cX0_lose 14 = .ok (.iload_n 1, 1) := dk_27 (dk_at dksX0_lose_0 14 rfl rfl)
theorem dX0_lose_15 : decode cX0_lose 15 = .ok (.aaload, 1) := dk_50 (dk_at dksX0_lose_0 15 rfl rfl)
theorem dX0_lose_16 : decode cX0_lose 16 = .ok (.getfield 64, 3) := dk_180 0 64 (dk_at dksX0_lose_0 16 rfl rfl)
theorem dX0_lose_19 : decode cX0_lose 19 = .ok (.ifnonnull 9, 3) := dk_199 0 9 (dk_at dksX0_lose_0 19 rfl rfl)
theorem dX0_lose_22 : decode cX0_lose 22 = .ok (.aload_n 0, 1) := dk_42 (dk_at dksX0_lose_0 22 rfl rfl)
theorem dX0_lose_23 : decode cX0_lose 23 = .ok (.iconst 1, 1) := dk_4 (dk_at dksX0_lose_0 23 rfl rfl)
theorem dX0_lose_24 : decode cX0_lose 24 = .ok (.invokevirtual 70, 3) := dk_182 0 70 (dk_at dksX0_lose_1 0 rfl rfl)
theorem dX0_lose_27 : decode cX0_lose 27 = .ok (.ireturn, 1) := dk_172 (dk_at dksX0_lose_1 3 rfl rfl)
theorem dX0_lose_28 : decode cX0_lose 28 = .ok (.aload_n 0, 1) := dk_42 (dk_at dksX0_lose_1 4 rfl rfl)
theorem dX0_lose_29 : decode cX0_lose 29 = .ok (.getfield 60, 3) := dk_180 0 60 (dk_at dksX0_lose_1 5 rfl rfl)
theorem dX0_lose_32 : decode cX0_lose 32 = .ok (.iload_n 1, 1) := dk_27 (dk_at dksX0_lose_1 8 rfl rfl)
theorem dX0_lose_33 : decode cX0_lose 33 = .ok (.aaload, 1) := dk_50 (dk_at dksX0_lose_1 9 rfl rfl)
theorem dX0_lose_34 : decode cX0_lose 34 = .ok (.invokevirtual 73, 3) := dk_182 0 73 (dk_at dksX0_lose_1 10 rfl rfl)
theorem dX0_lose_37 : decode cX0_lose 37 = .ok (.istore_n 2, 1) := dk_61 (dk_at dksX0_lose_1 13 rfl rfl)
theorem dX0_lose_38 : decode cX0_lose 38 = .ok (.aload_n 0, 1) := dk_42 (dk_at dksX0_lose_1 14 rfl rfl)
theorem dX0_lose_39 : decode cX0_lose 39 = .ok (.getfield 60, 3) := dk_180 0 60 (dk_at dksX0_lose_1 15 rfl rfl)
theorem dX0_lose_42 : decode cX0_lose 42 = .ok (.iload_n 1, 1) := dk_27 (dk_at dksX0_lose_1 18 rfl rfl)
theorem dX0_lose_43 : decode cX0_lose 43 = .ok (.aaload, 1) := dk_50 (dk_at dksX0_lose_1 19 rfl rfl)
theorem dX0_lose_44 : decode cX0_lose 44 = .ok (.aconst_null, 1) := dk_1 (dk_at dksX0_lose_1 20 rfl rfl)
theorem dX0_lose_45 : decode cX0_lose 45 = .ok (.putfield 64, 3) := dk_181 0 64 (dk_at dksX0_lose_1 21 rfl rfl)
theorem dX0_lose_48 : decode cX0_lose 48 = .ok (.iload_n 2, 1) := dk_28 (dk_at dksX0_lose_2 0 rfl rfl)
theorem dX0_lose_49 : decode cX0_lose 49 = .ok (.ireturn, 1) := dk_172 (dk_at dksX0_lose_2 1 rfl rfl)
abbrev cX0_lay : ByteArray := prog_1_method_81_code
def yX0_lay : MethodName := ⟨RX0, "lay", "(IIII)I"⟩
def dkwX0_lay_2 : List UInt8 := [6, 182, 0, 70, 172, 58, 5, 42, 5, 182, 0, 70, 172]
abbrev dktX0_lay_2 : List UInt8 := dkwX0_lay_2 ++ []
def dkwX0_lay_1 : List UInt8 := [50, 180, 0, 64, 28, 29, 21, 4, 184, 1, 158, 4, 172, 58, 5, 42, 4, 182, 0, 70, 172, 58, 5, 42]
abbrev dktX0_lay_1 : List UInt8 := dkwX0_lay_1 ++ dktX0_lay_2
def dkwX0_lay_0 : List UInt8 := [27, 184, 0, 57, 153, 0, 12, 28, 3, 5, 184, 0, 1, 154, 0, 6, 16, 254, 172, 42, 180, 0, 60, 27]
abbrev dktX0_lay_0 : List UInt8 := dkwX0_lay_0 ++ dktX0_lay_1
theorem dksX0_lay_0 : cX0_lay.data.toList.drop 0 = dktX0_lay_0 := by decide +kernel
theorem dksX0_lay_1 : cX0_lay.data.toList.drop 24 = dktX0_lay_1 := dk_seg dksX0_lay_0 24 rfl rfl
theorem dksX0_lay_2 : cX0_lay.data.toList.drop 48 = dktX0_lay_2 := dk_seg dksX0_lay_1 24 rfl rfl
theorem dX0_lay_0 : decode cX0_lay 0 = .ok (.iload_n 1, 1) := dk_27 (dk_at dksX0_lay_0 0 rfl rfl)
theorem dX0_lay_1 : decode cX0_lay 1 = .ok (.invokestatic 57, 3) := dk_184 0 57 (dk_at dksX0_lay_0 1 rfl rfl)
theorem dX0_lay_4 : decode cX0_lay 4 = .ok (.ifCond .eq 12, 3) := dk_153 0 12 (dk_at dksX0_lay_0 4 rfl rfl)
theorem dX0_lay_7 : decode cX0_lay 7 = .ok (.iload_n 2, 1) := dk_28 (dk_at dksX0_lay_0 7 rfl rfl)
theorem dX0_lay_8 : decode cX0_lay 8 = .ok (.iconst 0, 1) := dk_3 (dk_at dksX0_lay_0 8 rfl rfl)
theorem dX0_lay_9 : decode cX0_lay 9 = .ok (.iconst 2, 1) := dk_5 (dk_at dksX0_lay_0 9 rfl rfl)
theorem dX0_lay_10 : decode cX0_lay 10 = .ok (.invokestatic 1, 3) := dk_184 0 1 (dk_at dksX0_lay_0 10 rfl rfl)
theorem dX0_lay_13 : decode cX0_lay 13 = .ok (.ifCond .ne 6, 3) := dk_154 0 6 (dk_at dksX0_lay_0 13 rfl rfl)
theorem dX0_lay_16 : decode cX0_lay 16 = .ok (.bipush (-2), 2) := dk_16 254 (dk_at dksX0_lay_0 16 rfl rfl)
theorem dX0_lay_18 : decode cX0_lay 18 = .ok (.ireturn, 1) := dk_172 (dk_at dksX0_lay_0 18 rfl rfl)
theorem dX0_lay_19 : decode cX0_lay 19 = .ok (.aload_n 0, 1) := dk_42 (dk_at dksX0_lay_0 19 rfl rfl)
theorem dX0_lay_20 : decode cX0_lay 20 = .ok (.getfield 60, 3) := dk_180 0 60 (dk_at dksX0_lay_0 20 rfl rfl)
theorem dX0_lay_23 : decode cX0_lay 23 = .ok (.iload_n 1, 1) := dk_27 (dk_at dksX0_lay_0 23 rfl rfl)
theorem dX0_lay_24 : decode cX0_lay 24 = .ok (.aaload, 1) := dk_50 (dk_at dksX0_lay_1 0 rfl rfl)
theorem dX0_lay_25 : decode cX0_lay 25 = .ok (.getfield 64, 3) := dk_180 0 64 (dk_at dksX0_lay_1 1 rfl rfl)
theorem dX0_lay_28 : decode cX0_lay 28 = .ok (.iload_n 2, 1) := dk_28 (dk_at dksX0_lay_1 4 rfl rfl)
theorem dX0_lay_29 : decode cX0_lay 29 = .ok (.iload_n 3, 1) := dk_29 (dk_at dksX0_lay_1 5 rfl rfl)
theorem dX0_lay_30 : decode cX0_lay 30 = .ok (.iload 4, 2) := dk_21 4 (dk_at dksX0_lay_1 6 rfl rfl)
theorem dX0_lay_32 : decode cX0_lay 32 = .ok (.invokestatic 414, 3) := dk_184 1 158 (dk_at dksX0_lay_1 8 rfl rfl)
theorem dX0_lay_35 : decode cX0_lay 35 = .ok (.iconst 1, 1) := dk_4 (dk_at dksX0_lay_1 11 rfl rfl)
theorem dX0_lay_36 : decode cX0_lay 36 = .ok (.ireturn, 1) := dk_172 (dk_at dksX0_lay_1 12 rfl rfl)
theorem dX0_lay_37 : decode cX0_lay 37 = .ok (.astore 5, 2) := dk_58 5 (dk_at dksX0_lay_1 13 rfl rfl)
theorem dX0_lay_39 : decode cX0_lay 39 = .ok (.aload_n 0, 1) := dk_42 (dk_at dksX0_lay_1 15 rfl rfl)
theorem dX0_lay_40 : decode cX0_lay 40 = .ok (.iconst 1, 1) := dk_4 (dk_at dksX0_lay_1 16 rfl rfl)
theorem dX0_lay_41 : decode cX0_lay 41 = .ok (.invokevirtual 70, 3) := dk_182 0 70 (dk_at dksX0_lay_1 17 rfl rfl)
theorem dX0_lay_44 : decode cX0_lay 44 = .ok (.ireturn, 1) := dk_172 (dk_at dksX0_lay_1 20 rfl rfl)
theorem dX0_lay_45 : decode cX0_lay 45 = .ok (.astore 5, 2) := dk_58 5 (dk_at dksX0_lay_1 21 rfl rfl)
theorem dX0_lay_47 : decode cX0_lay 47 = .ok (.aload_n 0, 1) := dk_42 (dk_at dksX0_lay_1 23 rfl rfl)
theorem dX0_lay_48 : decode cX0_lay 48 = .ok (.iconst 3, 1) := dk_6 (dk_at dksX0_lay_2 0 rfl rfl)
theorem dX0_lay_49 : decode cX0_lay 49 = .ok (.invokevirtual 70, 3) := dk_182 0 70 (dk_at dksX0_lay_2 1 rfl rfl)
theorem dX0_lay_52 : decode cX0_lay 52 = .ok (.ireturn, 1) := dk_172 (dk_at dksX0_lay_2 4 rfl rfl)
theorem dX0_lay_53 : decode cX0_lay 53 = .ok (.astore 5, 2) := dk_58 5 (dk_at dksX0_lay_2 5 rfl rfl)
theorem dX0_lay_55 : decode cX0_lay 55 = .ok (.aload_n 0, 1) := dk_42 (dk_at dksX0_lay_2 7 rfl rfl)
theorem dX0_lay_56 : decode cX0_lay 56 = .ok (.iconst 2, 1) := dk_5 (dk_at dksX0_lay_2 8 rfl rfl)
theorem dX0_lay_57 : decode cX0_lay 57 = .ok (.invokevirtual 70, 3) := dk_182 0 70 (dk_at dksX0_lay_2 9 rfl rfl)
theorem dX0_lay_60 : decode cX0_lay 60 = .ok (.ireturn, 1) := dk_172 (dk_at dksX0_lay_2 12 rfl rfl)
abbrev cX0_laid : ByteArray := prog_1_method_79_code
def yX0_laid : MethodName := ⟨RX0, "laid", "(Ljava/lang/Object;III)V"⟩
def dkwX0_laid_3 : List UInt8 := [192, 1, 157, 28, 29, 79, 177]
abbrev dktX0_laid_3 : List UInt8 := dkwX0_laid_3 ++ []
def dkwX0_laid_2 : List UInt8 := [42, 192, 1, 153, 28, 29, 145, 84, 167, 0, 21, 42, 192, 1, 155, 28, 29, 147, 86, 167, 0, 10, 42]
abbrev dktX0_laid_2 : List UInt8 := dkwX0_laid_2 ++ dktX0_laid_3
def dkwX0_laid_1 : List UInt8 := [171, 0, 0, 0, 0, 0, 49, 0, 0, 0, 2, 0, 0, 0, 0, 0, 0, 0, 27, 0, 0, 0, 1, 0, 0, 0, 38]
abbrev dktX0_laid_1 : List UInt8 := dkwX0_laid_1 ++ dktX0_laid_2
def dkwX0_laid_0 : List UInt8 := [27]
abbrev dktX0_laid_0 : List UInt8 := dkwX0_laid_0 ++ dktX0_laid_1
theorem dksX0_laid_0 : cX0_laid.data.toList.drop 0 = dktX0_laid_0 := by decide +kernel
theorem dksX0_laid_1 : cX0_laid.data.toList.drop 1 = dktX0_laid_1 := dk_seg dksX0_laid_0 1 rfl rfl
theorem dksX0_laid_2 : cX0_laid.data.toList.drop 28 = dktX0_laid_2 := dk_seg dksX0_laid_1 27 rfl rfl
theorem dksX0_laid_3 : cX0_laid.data.toList.drop 51 = dktX0_laid_3 := dk_seg dksX0_laid_2 23 rfl rfl
theorem dX0_laid_0 : decode cX0_laid 0 = .ok (.iload_n 1, 1) := dk_27 (dk_at dksX0_laid_0 0 rfl rfl)
theorem dX0_laid_1 : decode cX0_laid 1 = .ok (.lookupswitch 49 #[(0, 27), (1, 38)], 27) := by decide +kernel
theorem dX0_laid_28 : decode cX0_laid 28 = .ok (.aload_n 0, 1) := dk_42 (dk_at dksX0_laid_2 0 rfl rfl)
theorem dX0_laid_29 : decode cX0_laid 29 = .ok (.checkcast 409, 3) := dk_192 1 153 (dk_at dksX0_laid_2 1 rfl rfl)
theorem dX0_laid_32 : decode cX0_laid 32 = .ok (.iload_n 2, 1) := dk_28 (dk_at dksX0_laid_2 4 rfl rfl)
theorem dX0_laid_33 : decode cX0_laid 33 = .ok (.iload_n 3, 1) := dk_29 (dk_at dksX0_laid_2 5 rfl rfl)
theorem dX0_laid_34 : decode cX0_laid 34 = .ok (.i2b, 1) := dk_145 (dk_at dksX0_laid_2 6 rfl rfl)
theorem dX0_laid_35 : decode cX0_laid 35 = .ok (.bastore, 1) := dk_84 (dk_at dksX0_laid_2 7 rfl rfl)
theorem dX0_laid_36 : decode cX0_laid 36 = .ok (.goto 21, 3) := dk_167 0 21 (dk_at dksX0_laid_2 8 rfl rfl)
theorem dX0_laid_39 : decode cX0_laid 39 = .ok (.aload_n 0, 1) := dk_42 (dk_at dksX0_laid_2 11 rfl rfl)
theorem dX0_laid_40 : decode cX0_laid 40 = .ok (.checkcast 411, 3) := dk_192 1 155 (dk_at dksX0_laid_2 12 rfl rfl)
theorem dX0_laid_43 : decode cX0_laid 43 = .ok (.iload_n 2, 1) := dk_28 (dk_at dksX0_laid_2 15 rfl rfl)
theorem dX0_laid_44 : decode cX0_laid 44 = .ok (.iload_n 3, 1) := dk_29 (dk_at dksX0_laid_2 16 rfl rfl)
theorem dX0_laid_45 : decode cX0_laid 45 = .ok (.i2s, 1) := dk_147 (dk_at dksX0_laid_2 17 rfl rfl)
theorem dX0_laid_46 : decode cX0_laid 46 = .ok (.sastore, 1) := dk_86 (dk_at dksX0_laid_2 18 rfl rfl)
theorem dX0_laid_47 : decode cX0_laid 47 = .ok (.goto 10, 3) := dk_167 0 10 (dk_at dksX0_laid_2 19 rfl rfl)
theorem dX0_laid_50 : decode cX0_laid 50 = .ok (.aload_n 0, 1) := dk_42 (dk_at dksX0_laid_2 22 rfl rfl)
theorem dX0_laid_51 : decode cX0_laid 51 = .ok (.checkcast 413, 3) := dk_192 1 157 (dk_at dksX0_laid_3 0 rfl rfl)
theorem dX0_laid_54 : decode cX0_laid 54 = .ok (.iload_n 2, 1) := dk_28 (dk_at dksX0_laid_3 3 rfl rfl)
theorem dX0_laid_55 : decode cX0_laid 55 = .ok (.iload_n 3, 1) := dk_29 (dk_at dksX0_laid_3 4 rfl rfl)
theorem dX0_laid_56 : decode cX0_laid 56 = .ok (.iastore, 1) := dk_79 (dk_at dksX0_laid_3 5 rfl rfl)
theorem dX0_laid_57 : decode cX0_laid 57 = .ok (.return_, 1) := dk_177 (dk_at dksX0_laid_3 6 rfl rfl)
abbrev cX0_get : ByteArray := prog_1_method_82_code
def yX0_get : MethodName := ⟨RX0, "get", "(III)I"⟩
def dkwX0_get_2 : List UInt8 := [6, 54, 4, 167, 0, 8, 58, 5, 5, 54, 4, 42, 21, 4, 181, 1, 141, 18, 56, 172]
abbrev dktX0_get_2 : List UInt8 := dkwX0_get_2 ++ []
def dkwX0_get_1 : List UInt8 := [180, 0, 60, 27, 50, 180, 0, 64, 28, 29, 184, 1, 168, 172, 58, 5, 4, 54, 4, 167, 0, 16, 58, 5]
abbrev dktX0_get_1 : List UInt8 := dkwX0_get_1 ++ dktX0_get_2
def dkwX0_get_0 : List UInt8 := [27, 184, 0, 57, 153, 0, 12, 28, 3, 5, 184, 0, 1, 154, 0, 6, 18, 56, 172, 3, 54, 4, 42]
abbrev dktX0_get_0 : List UInt8 := dkwX0_get_0 ++ dktX0_get_1
theorem dksX0_get_0 : cX0_get.data.toList.drop 0 = dktX0_get_0 := by decide +kernel
theorem dksX0_get_1 : cX0_get.data.toList.drop 23 = dktX0_get_1 := dk_seg dksX0_get_0 23 rfl rfl
theorem dksX0_get_2 : cX0_get.data.toList.drop 47 = dktX0_get_2 := dk_seg dksX0_get_1 24 rfl rfl
theorem dX0_get_0 : decode cX0_get 0 = .ok (.iload_n 1, 1) := dk_27 (dk_at dksX0_get_0 0 rfl rfl)
theorem dX0_get_1 : decode cX0_get 1 = .ok (.invokestatic 57, 3) := dk_184 0 57 (dk_at dksX0_get_0 1 rfl rfl)
theorem dX0_get_4 : decode cX0_get 4 = .ok (.ifCond .eq 12, 3) := dk_153 0 12 (dk_at dksX0_get_0 4 rfl rfl)
theorem dX0_get_7 : decode cX0_get 7 = .ok (.iload_n 2, 1) := dk_28 (dk_at dksX0_get_0 7 rfl rfl)
theorem dX0_get_8 : decode cX0_get 8 = .ok (.iconst 0, 1) := dk_3 (dk_at dksX0_get_0 8 rfl rfl)
theorem dX0_get_9 : decode cX0_get 9 = .ok (.iconst 2, 1) := dk_5 (dk_at dksX0_get_0 9 rfl rfl)
theorem dX0_get_10 : decode cX0_get 10 = .ok (.invokestatic 1, 3) := dk_184 0 1 (dk_at dksX0_get_0 10 rfl rfl)
theorem dX0_get_13 : decode cX0_get 13 = .ok (.ifCond .ne 6, 3) := dk_154 0 6 (dk_at dksX0_get_0 13 rfl rfl)
theorem dX0_get_16 : decode cX0_get 16 = .ok (.ldc 56, 2) := dk_18 56 (dk_at dksX0_get_0 16 rfl rfl)
theorem dX0_get_18 : decode cX0_get 18 = .ok (.ireturn, 1) := dk_172 (dk_at dksX0_get_0 18 rfl rfl)
theorem dX0_get_19 : decode cX0_get 19 = .ok (.iconst 0, 1) := dk_3 (dk_at dksX0_get_0 19 rfl rfl)
theorem dX0_get_20 : decode cX0_get 20 = .ok (.istore 4, 2) := dk_54 4 (dk_at dksX0_get_0 20 rfl rfl)
theorem dX0_get_22 : decode cX0_get 22 = .ok (.aload_n 0, 1) := dk_42 (dk_at dksX0_get_0 22 rfl rfl)
theorem dX0_get_23 : decode cX0_get 23 = .ok (.getfield 60, 3) := dk_180 0 60 (dk_at dksX0_get_1 0 rfl rfl)
theorem dX0_get_26 : decode cX0_get 26 = .ok (.iload_n 1, 1) := dk_27 (dk_at dksX0_get_1 3 rfl rfl)
theorem dX0_get_27 : decode cX0_get 27 = .ok (.aaload, 1) := dk_50 (dk_at dksX0_get_1 4 rfl rfl)
theorem dX0_get_28 : decode cX0_get 28 = .ok (.getfield 64, 3) := dk_180 0 64 (dk_at dksX0_get_1 5 rfl rfl)
theorem dX0_get_31 : decode cX0_get 31 = .ok (.iload_n 2, 1) := dk_28 (dk_at dksX0_get_1 8 rfl rfl)
theorem dX0_get_32 : decode cX0_get 32 = .ok (.iload_n 3, 1) := dk_29 (dk_at dksX0_get_1 9 rfl rfl)
theorem dX0_get_33 : decode cX0_get 33 = .ok (.invokestatic 424, 3) := dk_184 1 168 (dk_at dksX0_get_1 10 rfl rfl)
theorem dX0_get_36 : decode cX0_get 36 = .ok (.ireturn, 1) := dk_172 (dk_at dksX0_get_1 13 rfl rfl)
theorem dX0_get_37 : decode cX0_get 37 = .ok (.astore 5, 2) := dk_58 5 (dk_at dksX0_get_1 14 rfl rfl)
theorem dX0_get_39 : decode cX0_get 39 = .ok (.iconst 1, 1) := dk_4 (dk_at dksX0_get_1 16 rfl rfl)
theorem dX0_get_40 : decode cX0_get 40 = .ok (.istore 4, 2) := dk_54 4 (dk_at dksX0_get_1 17 rfl rfl)
theorem dX0_get_42 : decode cX0_get 42 = .ok (.goto 16, 3) := dk_167 0 16 (dk_at dksX0_get_1 19 rfl rfl)
theorem dX0_get_45 : decode cX0_get 45 = .ok (.astore 5, 2) := dk_58 5 (dk_at dksX0_get_1 22 rfl rfl)
theorem dX0_get_47 : decode cX0_get 47 = .ok (.iconst 3, 1) := dk_6 (dk_at dksX0_get_2 0 rfl rfl)
theorem dX0_get_48 : decode cX0_get 48 = .ok (.istore 4, 2) := dk_54 4 (dk_at dksX0_get_2 1 rfl rfl)
theorem dX0_get_50 : decode cX0_get 50 = .ok (.goto 8, 3) := dk_167 0 8 (dk_at dksX0_get_2 3 rfl rfl)
theorem dX0_get_53 : decode cX0_get 53 = .ok (.astore 5, 2) := dk_58 5 (dk_at dksX0_get_2 6 rfl rfl)
theorem dX0_get_55 : decode cX0_get 55 = .ok (.iconst 2, 1) := dk_5 (dk_at dksX0_get_2 8 rfl rfl)
theorem dX0_get_56 : decode cX0_get 56 = .ok (.istore 4, 2) := dk_54 4 (dk_at dksX0_get_2 9 rfl rfl)
theorem dX0_get_58 : decode cX0_get 58 = .ok (.aload_n 0, 1) := dk_42 (dk_at dksX0_get_2 11 rfl rfl)
theorem dX0_get_59 : decode cX0_get 59 = .ok (.iload 4, 2) := dk_21 4 (dk_at dksX0_get_2 12 rfl rfl)
theorem dX0_get_61 : decode cX0_get 61 = .ok (.putfield 397, 3) := dk_181 1 141 (dk_at dksX0_get_2 14 rfl rfl)
theorem dX0_get_64 : decode cX0_get 64 = .ok (.ldc 56, 2) := dk_18 56 (dk_at dksX0_get_2 17 rfl rfl)
theorem dX0_get_66 : decode cX0_get 66 = .ok (.ireturn, 1) := dk_172 (dk_at dksX0_get_2 19 rfl rfl)
abbrev cX0_copy : ByteArray := prog_1_method_83_code
def yX0_copy : MethodName := ⟨RX0, "copy", "(IIIII)I"⟩
def dkwX0_copy_4 : List UInt8 := [182, 0, 70, 172, 58, 8, 42, 5, 182, 0, 70, 172]
abbrev dktX0_copy_4 : List UInt8 := dkwX0_copy_4 ++ []
def dkwX0_copy_3 : List UInt8 := [180, 0, 64, 28, 25, 7, 180, 0, 64, 21, 4, 21, 5, 184, 1, 172, 4, 172, 58, 8, 42, 4]
abbrev dktX0_copy_3 : List UInt8 := dkwX0_copy_3 ++ dktX0_copy_4
def dkwX0_copy_2 : List UInt8 := [198, 0, 22, 25, 6, 180, 1, 150, 25, 7, 180, 1, 150, 159, 0, 9, 42, 7, 182, 0, 70, 172, 25, 6]
abbrev dktX0_copy_2 : List UInt8 := dkwX0_copy_2 ++ dktX0_copy_3
def dkwX0_copy_1 : List UInt8 := [58, 6, 42, 180, 0, 60, 29, 50, 58, 7, 25, 6, 180, 0, 64, 198, 0, 30, 25, 7, 180, 0, 64]
abbrev dktX0_copy_1 : List UInt8 := dkwX0_copy_1 ++ dktX0_copy_2
def dkwX0_copy_0 : List UInt8 := [27, 184, 0, 57, 153, 0, 10, 29, 184, 0, 57, 154, 0, 6, 16, 254, 172, 42, 180, 0, 60, 27, 50]
abbrev dktX0_copy_0 : List UInt8 := dkwX0_copy_0 ++ dktX0_copy_1
theorem dksX0_copy_0 : cX0_copy.data.toList.drop 0 = dktX0_copy_0 := by decide +kernel
theorem dksX0_copy_1 : cX0_copy.data.toList.drop 23 = dktX0_copy_1 := dk_seg dksX0_copy_0 23 rfl rfl
theorem dksX0_copy_2 : cX0_copy.data.toList.drop 46 = dktX0_copy_2 := dk_seg dksX0_copy_1 23 rfl rfl
theorem dksX0_copy_3 : cX0_copy.data.toList.drop 70 = dktX0_copy_3 := dk_seg dksX0_copy_2 24 rfl rfl
theorem dksX0_copy_4 : cX0_copy.data.toList.drop 92 = dktX0_copy_4 := dk_seg dksX0_copy_3 22 rfl rfl
theorem dX0_copy_0 : decode cX0_copy 0 = .ok (.iload_n 1, 1) := dk_27 (dk_at dksX0_copy_0 0 rfl rfl)
theorem dX0_copy_1 : decode cX0_copy 1 = .ok (.invokestatic 57, 3) := dk_184 0 57 (dk_at dksX0_copy_0 1 rfl rfl)
theorem dX0_copy_4 : decode cX0_copy 4 = .ok (.ifCond .eq 10, 3) := dk_153 0 10 (dk_at dksX0_copy_0 4 rfl rfl)
theorem dX0_copy_7 : decode cX0_copy 7 = .ok (.iload_n 3, 1) := dk_29 (dk_at dksX0_copy_0 7 rfl rfl)
theorem dX0_copy_8 : decode cX0_copy 8 = .ok (.invokestatic 57, 3) := dk_184 0 57 (dk_at dksX0_copy_0 8 rfl rfl)
theorem dX0_copy_11 : decode cX0_copy 11 = .ok (.ifCond .ne 6, 3) := dk_154 0 6 (dk_at dksX0_copy_0 11 rfl rfl)
theorem dX0_copy_14 : decode cX0_copy 14 = .ok (.bipush (-2), 2) := dk_16 254 (dk_at dksX0_copy_0 14 rfl rfl)
theorem dX0_copy_16 : decode cX0_copy 16 = .ok (.ireturn, 1) := dk_172 (dk_at dksX0_copy_0 16 rfl rfl)
theorem dX0_copy_17 : decode cX0_copy 17 = .ok (.aload_n 0, 1) := dk_42 (dk_at dksX0_copy_0 17 rfl rfl)
theorem dX0_copy_18 : decode cX0_copy 18 = .ok (.getfield 60, 3) := dk_180 0 60 (dk_at dksX0_copy_0 18 rfl rfl)
theorem dX0_copy_21 : decode cX0_copy 21 = .ok (.iload_n 1, 1) := dk_27 (dk_at dksX0_copy_0 21 rfl rfl)
theorem dX0_copy_22 : decode cX0_copy 22 = .ok (.aaload, 1) := dk_50 (dk_at dksX0_copy_0 22 rfl rfl)
theorem dX0_copy_23 : decode cX0_copy 23 = .ok (.astore 6, 2) := dk_58 6 (dk_at dksX0_copy_1 0 rfl rfl)
theorem dX0_copy_25 : decode cX0_copy 25 = .ok (.aload_n 0, 1) := dk_42 (dk_at dksX0_copy_1 2 rfl rfl)
theorem dX0_copy_26 : decode cX0_copy 26 = .ok (.getfield 60, 3) := dk_180 0 60 (dk_at dksX0_copy_1 3 rfl rfl)
theorem dX0_copy_29 : decode cX0_copy 29 = .ok (.iload_n 3, 1) := dk_29 (dk_at dksX0_copy_1 6 rfl rfl)
theorem dX0_copy_30 : decode cX0_copy 30 = .ok (.aaload, 1) := dk_50 (dk_at dksX0_copy_1 7 rfl rfl)
theorem dX0_copy_31 : decode cX0_copy 31 = .ok (.astore 7, 2) := dk_58 7 (dk_at dksX0_copy_1 8 rfl rfl)
theorem dX0_copy_33 : decode cX0_copy 33 = .ok (.aload 6, 2) := dk_25 6 (dk_at dksX0_copy_1 10 rfl rfl)
theorem dX0_copy_35 : decode cX0_copy 35 = .ok (.getfield 64, 3) := dk_180 0 64 (dk_at dksX0_copy_1 12 rfl rfl)
theorem dX0_copy_38 : decode cX0_copy 38 = .ok (.ifnull 30, 3) := dk_198 0 30 (dk_at dksX0_copy_1 15 rfl rfl)
theorem dX0_copy_41 : decode cX0_copy 41 = .ok (.aload 7, 2) := dk_25 7 (dk_at dksX0_copy_1 18 rfl rfl)
theorem dX0_copy_43 : decode cX0_copy 43 = .ok (.getfield 64, 3) := dk_180 0 64 (dk_at dksX0_copy_1 20 rfl rfl)
theorem dX0_copy_46 : decode cX0_copy 46 = .ok (.ifnull 22, 3) := dk_198 0 22 (dk_at dksX0_copy_2 0 rfl rfl)
theorem dX0_copy_49 : decode cX0_copy 49 = .ok (.aload 6, 2) := dk_25 6 (dk_at dksX0_copy_2 3 rfl rfl)
theorem dX0_copy_51 : decode cX0_copy 51 = .ok (.getfield 406, 3) := dk_180 1 150 (dk_at dksX0_copy_2 5 rfl rfl)
theorem dX0_copy_54 : decode cX0_copy 54 = .ok (.aload 7, 2) := dk_25 7 (dk_at dksX0_copy_2 8 rfl rfl)
theorem dX0_copy_56 : decode cX0_copy 56 = .ok (.getfield 406, 3) := dk_180 1 150 (dk_at dksX0_copy_2 10 rfl rfl)
theorem dX0_copy_59 : decode cX0_copy 59 = .ok (.if_icmp .eq 9, 3) := dk_159 0 9 (dk_at dksX0_copy_2 13 rfl rfl)
theorem dX0_copy_62 : decode cX0_copy 62 = .ok (.aload_n 0, 1) := dk_42 (dk_at dksX0_copy_2 16 rfl rfl)
theorem dX0_copy_63 : decode cX0_copy 63 = .ok (.iconst 4, 1) := dk_7 (dk_at dksX0_copy_2 17 rfl rfl)
theorem dX0_copy_64 : decode cX0_copy 64 = .ok (.invokevirtual 70, 3) := dk_182 0 70 (dk_at dksX0_copy_2 18 rfl rfl)
theorem dX0_copy_67 : decode cX0_copy 67 = .ok (.ireturn, 1) := dk_172 (dk_at dksX0_copy_2 21 rfl rfl)
theorem dX0_copy_68 : decode cX0_copy 68 = .ok (.aload 6, 2) := dk_25 6 (dk_at dksX0_copy_2 22 rfl rfl)
theorem dX0_copy_70 : decode cX0_copy 70 = .ok (.getfield 64, 3) := dk_180 0 64 (dk_at dksX0_copy_3 0 rfl rfl)
theorem dX0_copy_73 : decode cX0_copy 73 = .ok (.iload_n 2, 1) := dk_28 (dk_at dksX0_copy_3 3 rfl rfl)
theorem dX0_copy_74 : decode cX0_copy 74 = .ok (.aload 7, 2) := dk_25 7 (dk_at dksX0_copy_3 4 rfl rfl)
theorem dX0_copy_76 : decode cX0_copy 76 = .ok (.getfield 64, 3) := dk_180 0 64 (dk_at dksX0_copy_3 6 rfl rfl)
theorem dX0_copy_79 : decode cX0_copy 79 = .ok (.iload 4, 2) := dk_21 4 (dk_at dksX0_copy_3 9 rfl rfl)
theorem dX0_copy_81 : decode cX0_copy 81 = .ok (.iload 5, 2) := dk_21 5 (dk_at dksX0_copy_3 11 rfl rfl)
theorem dX0_copy_83 : decode cX0_copy 83 = .ok (.invokestatic 428, 3) := dk_184 1 172 (dk_at dksX0_copy_3 13 rfl rfl)
theorem dX0_copy_86 : decode cX0_copy 86 = .ok (.iconst 1, 1) := dk_4 (dk_at dksX0_copy_3 16 rfl rfl)
theorem dX0_copy_87 : decode cX0_copy 87 = .ok (.ireturn, 1) := dk_172 (dk_at dksX0_copy_3 17 rfl rfl)
theorem dX0_copy_88 : decode cX0_copy 88 = .ok (.astore 8, 2) := dk_58 8 (dk_at dksX0_copy_3 18 rfl rfl)
theorem dX0_copy_90 : decode cX0_copy 90 = .ok (.aload_n 0, 1) := dk_42 (dk_at dksX0_copy_3 20 rfl rfl)
theorem dX0_copy_91 : decode cX0_copy 91 = .ok (.iconst 1, 1) := dk_4 (dk_at dksX0_copy_3 21 rfl rfl)
theorem dX0_copy_92 : decode cX0_copy 92 = .ok (.invokevirtual 70, 3) := dk_182 0 70 (dk_at dksX0_copy_4 0 rfl rfl)
theorem dX0_copy_95 : decode cX0_copy 95 = .ok (.ireturn, 1) := dk_172 (dk_at dksX0_copy_4 3 rfl rfl)
theorem dX0_copy_96 : decode cX0_copy 96 = .ok (.astore 8, 2) := dk_58 8 (dk_at dksX0_copy_4 4 rfl rfl)
theorem dX0_copy_98 : decode cX0_copy 98 = .ok (.aload_n 0, 1) := dk_42 (dk_at dksX0_copy_4 6 rfl rfl)
theorem dX0_copy_99 : decode cX0_copy 99 = .ok (.iconst 2, 1) := dk_5 (dk_at dksX0_copy_4 7 rfl rfl)
theorem dX0_copy_100 : decode cX0_copy 100 = .ok (.invokevirtual 70, 3) := dk_182 0 70 (dk_at dksX0_copy_4 8 rfl rfl)
theorem dX0_copy_103 : decode cX0_copy 103 = .ok (.ireturn, 1) := dk_172 (dk_at dksX0_copy_4 11 rfl rfl)
abbrev cX0_write : ByteArray := prog_1_method_84_code
def yX0_write : MethodName := ⟨RX0, "write", "(I)I"⟩
def dkwX0_write_3 : List UInt8 := [21, 4, 46, 184, 1, 158, 132, 4, 1, 167, 255, 227, 29, 172]
abbrev dktX0_write_3 : List UInt8 := dkwX0_write_3 ++ []
def dkwX0_write_2 : List UInt8 := [3, 54, 4, 21, 4, 29, 162, 0, 29, 44, 180, 0, 64, 44, 180, 1, 150, 21, 4, 42, 180, 1, 15]
abbrev dktX0_write_2 : List UInt8 := dkwX0_write_2 ++ dktX0_write_3
def dkwX0_write_1 : List UInt8 := [42, 4, 182, 0, 70, 172, 42, 182, 1, 44, 42, 180, 0, 11, 4, 46, 44, 182, 0, 73, 184, 0, 91, 62]
abbrev dktX0_write_1 : List UInt8 := dkwX0_write_1 ++ dktX0_write_2
def dkwX0_write_0 : List UInt8 := [27, 184, 0, 57, 154, 0, 6, 16, 254, 172, 42, 180, 0, 60, 27, 50, 77, 44, 180, 0, 64, 199, 0, 9]
abbrev dktX0_write_0 : List UInt8 := dkwX0_write_0 ++ dktX0_write_1
theorem dksX0_write_0 : cX0_write.data.toList.drop 0 = dktX0_write_0 := by decide +kernel
theorem dksX0_write_1 : cX0_write.data.toList.drop 24 = dktX0_write_1 := dk_seg dksX0_write_0 24 rfl rfl
theorem dksX0_write_2 : cX0_write.data.toList.drop 48 = dktX0_write_2 := dk_seg dksX0_write_1 24 rfl rfl
theorem dksX0_write_3 : cX0_write.data.toList.drop 71 = dktX0_write_3 := dk_seg dksX0_write_2 23 rfl rfl
theorem dX0_write_0 : decode cX0_write 0 = .ok (.iload_n 1, 1) := dk_27 (dk_at dksX0_write_0 0 rfl rfl)
theorem dX0_write_1 : decode cX0_write 1 = .ok (.invokestatic 57, 3) := dk_184 0 57 (dk_at dksX0_write_0 1 rfl rfl)
theorem dX0_write_4 : decode cX0_write 4 = .ok (.ifCond .ne 6, 3) := dk_154 0 6 (dk_at dksX0_write_0 4 rfl rfl)
theorem dX0_write_7 : decode cX0_write 7 = .ok (.bipush (-2), 2) := dk_16 254 (dk_at dksX0_write_0 7 rfl rfl)
theorem dX0_write_9 : decode cX0_write 9 = .ok (.ireturn, 1) := dk_172 (dk_at dksX0_write_0 9 rfl rfl)
theorem dX0_write_10 : decode cX0_write 10 = .ok (.aload_n 0, 1) := dk_42 (dk_at dksX0_write_0 10 rfl rfl)
theorem dX0_write_11 : decode cX0_write 11 = .ok (.getfield 60, 3) := dk_180 0 60 (dk_at dksX0_write_0 11 rfl rfl)
theorem dX0_write_14 : decode cX0_write 14 = .ok (.iload_n 1, 1) := dk_27 (dk_at dksX0_write_0 14 rfl rfl)
theorem dX0_write_15 : decode cX0_write 15 = .ok (.aaload, 1) := dk_50 (dk_at dksX0_write_0 15 rfl rfl)
theorem dX0_write_16 : decode cX0_write 16 = .ok (.astore_n 2, 1) := dk_77 (dk_at dksX0_write_0 16 rfl rfl)
theorem dX0_write_17 : decode cX0_write 17 = .ok (.aload_n 2, 1) := dk_44 (dk_at dksX0_write_0 17 rfl rfl)
theorem dX0_write_18 : decode cX0_write 18 = .ok (.getfield 64, 3) := dk_180 0 64 (dk_at dksX0_write_0 18 rfl rfl)
theorem dX0_write_21 : decode cX0_write 21 = .ok (.ifnonnull 9, 3) := dk_199 0 9 (dk_at dksX0_write_0 21 rfl rfl)
theorem dX0_write_24 : decode cX0_write 24 = .ok (.aload_n 0, 1) := dk_42 (dk_at dksX0_write_1 0 rfl rfl)
theorem dX0_write_25 : decode cX0_write 25 = .ok (.iconst 1, 1) := dk_4 (dk_at dksX0_write_1 1 rfl rfl)
theorem dX0_write_26 : decode cX0_write 26 = .ok (.invokevirtual 70, 3) := dk_182 0 70 (dk_at dksX0_write_1 2 rfl rfl)
theorem dX0_write_29 : decode cX0_write 29 = .ok (.ireturn, 1) := dk_172 (dk_at dksX0_write_1 5 rfl rfl)
theorem dX0_write_30 : decode cX0_write 30 = .ok (.aload_n 0, 1) := dk_42 (dk_at dksX0_write_1 6 rfl rfl)
theorem dX0_write_31 : decode cX0_write 31 = .ok (.invokevirtual 300, 3) := dk_182 1 44 (dk_at dksX0_write_1 7 rfl rfl)
theorem dX0_write_34 : decode cX0_write 34 = .ok (.aload_n 0, 1) := dk_42 (dk_at dksX0_write_1 10 rfl rfl)
theorem dX0_write_35 : decode cX0_write 35 = .ok (.getfield 11, 3) := dk_180 0 11 (dk_at dksX0_write_1 11 rfl rfl)
theorem dX0_write_38 : decode cX0_write 38 = .ok (.iconst 1, 1) := dk_4 (dk_at dksX0_write_1 14 rfl rfl)
theorem dX0_write_39 : decode cX0_write 39 = .ok (.iaload, 1) := dk_46 (dk_at dksX0_write_1 15 rfl rfl)
theorem dX0_write_40 : decode cX0_write 40 = .ok (.aload_n 2, 1) := dk_44 (dk_at dksX0_write_1 16 rfl rfl)
theorem dX0_write_41 : decode cX0_write 41 = .ok (.invokevirtual 73, 3) := dk_182 0 73 (dk_at dksX0_write_1 17 rfl rfl)
theorem dX0_write_44 : decode cX0_write 44 = .ok (.invokestatic 91, 3) := dk_184 0 91 (dk_at dksX0_write_1 20 rfl rfl)
theorem dX0_write_47 : decode cX0_write 47 = .ok (.istore_n 3, 1) := dk_62 (dk_at dksX0_write_1 23 rfl rfl)
theorem dX0_write_48 : decode cX0_write 48 = .ok (.iconst 0, 1) := dk_3 (dk_at dksX0_write_2 0 rfl rfl)
theorem dX0_write_49 : decode cX0_write 49 = .ok (.istore 4, 2) := dk_54 4 (dk_at dksX0_write_2 1 rfl rfl)
theorem dX0_write_51 : decode cX0_write 51 = .ok (.iload 4, 2) := dk_21 4 (dk_at dksX0_write_2 3 rfl rfl)
theorem dX0_write_53 : decode cX0_write 53 = .ok (.iload_n 3, 1) := dk_29 (dk_at dksX0_write_2 5 rfl rfl)
theorem dX0_write_54 : decode cX0_write 54 = .ok (.if_icmp .ge 29, 3) := dk_162 0 29 (dk_at dksX0_write_2 6 rfl rfl)
theorem dX0_write_57 : decode cX0_write 57 = .ok (.aload_n 2, 1) := dk_44 (dk_at dksX0_write_2 9 rfl rfl)
theorem dX0_write_58 : decode cX0_write 58 = .ok (.getfield 64, 3) := dk_180 0 64 (dk_at dksX0_write_2 10 rfl rfl)
theorem dX0_write_61 : decode cX0_write 61 = .ok (.aload_n 2, 1) := dk_44 (dk_at dksX0_write_2 13 rfl rfl)
theorem dX0_write_62 : decode cX0_write 62 = .ok (.getfield 406, 3) := dk_180 1 150 (dk_at dksX0_write_2 14 rfl rfl)
theorem dX0_write_65 : decode cX0_write 65 = .ok (.iload 4, 2) := dk_21 4 (dk_at dksX0_write_2 17 rfl rfl)
theorem dX0_write_67 : decode cX0_write 67 = .ok (.aload_n 0, 1) := dk_42 (dk_at dksX0_write_2 19 rfl rfl)
theorem dX0_write_68 : decode cX0_write 68 = .ok (.getfield 271, 3) := dk_180 1 15 (dk_at dksX0_write_2 20 rfl rfl)
theorem dX0_write_71 : decode cX0_write 71 = .ok (.iload 4, 2) := dk_21 4 (dk_at dksX0_write_3 0 rfl rfl)
theorem dX0_write_73 : decode cX0_write 73 = .ok (.iaload, 1) := dk_46 (dk_at dksX0_write_3 2 rfl rfl)
theorem dX0_write_74 : decode cX0_write 74 = .ok (.invokestatic 414, 3) := dk_184 1 158 (dk_at dksX0_write_3 3 rfl rfl)
theorem dX0_write_77 : decode cX0_write 77 = .ok (.iinc 4 1, 3) := dk_132 4 1 (dk_at dksX0_write_3 6 rfl rfl)
theorem dX0_write_80 : decode cX0_write 80 = .ok (.goto (-29), 3) := dk_167 255 227 (dk_at dksX0_write_3 9 rfl rfl)
theorem dX0_write_83 : decode cX0_write 83 = .ok (.iload_n 3, 1) := dk_29 (dk_at dksX0_write_3 12 rfl rfl)
theorem dX0_write_84 : decode cX0_write 84 = .ok (.ireturn, 1) := dk_172 (dk_at dksX0_write_3 13 rfl rfl)
abbrev cX0_count : ByteArray := prog_1_method_90_code
def yX0_count : MethodName := ⟨RX0, "count", "(I)I"⟩
def dkwX0_count_4 : List UInt8 := [16, 254, 172]
abbrev dktX0_count_4 : List UInt8 := dkwX0_count_4 ++ []
def dkwX0_count_3 : List UInt8 := [180, 0, 130, 4, 46, 172, 42, 182, 1, 189, 172, 42, 182, 1, 65, 184, 1, 192, 172, 42, 180, 1, 141, 172]
abbrev dktX0_count_3 : List UInt8 := dkwX0_count_3 ++ dktX0_count_4
def dkwX0_count_2 : List UInt8 := [42, 180, 0, 11, 27, 46, 172, 42, 182, 1, 180, 172, 42, 182, 1, 183, 172, 42, 182, 1, 186, 172, 42]
abbrev dktX0_count_2 : List UInt8 := dkwX0_count_2 ++ dktX0_count_3
def dkwX0_count_1 : List UInt8 := [170, 0, 0, 0, 0, 0, 98, 0, 0, 0, 0, 0, 0, 0, 8, 0, 0, 0, 51, 0, 0, 0, 51, 0, 0, 0, 58, 0, 0, 0, 63, 0, 0, 0, 68, 0, 0, 0, 73, 0, 0, 0, 80, 0, 0, 0, 85, 0, 0, 0, 93]
abbrev dktX0_count_1 : List UInt8 := dkwX0_count_1 ++ dktX0_count_2
def dkwX0_count_0 : List UInt8 := [27]
abbrev dktX0_count_0 : List UInt8 := dkwX0_count_0 ++ dktX0_count_1
theorem dksX0_count_0 : cX0_count.data.toList.drop 0 = dktX0_count_0 := by decide +kernel
theorem dksX0_count_1 : cX0_count.data.toList.drop 1 = dktX0_count_1 := dk_seg dksX0_count_0 1 rfl rfl
theorem dksX0_count_2 : cX0_count.data.toList.drop 52 = dktX0_count_2 := dk_seg dksX0_count_1 51 rfl rfl
theorem dksX0_count_3 : cX0_count.data.toList.drop 75 = dktX0_count_3 := dk_seg dksX0_count_2 23 rfl rfl
theorem dksX0_count_4 : cX0_count.data.toList.drop 99 = dktX0_count_4 := dk_seg dksX0_count_3 24 rfl rfl
theorem dX0_count_0 : decode cX0_count 0 = .ok (.iload_n 1, 1) := dk_27 (dk_at dksX0_count_0 0 rfl rfl)
theorem dX0_count_1 : decode cX0_count 1 = .ok (.tableswitch 98 0 8 #[51, 51, 58, 63, 68, 73, 80, 85, 93], 51) := by decide +kernel
theorem dX0_count_52 : decode cX0_count 52 = .ok (.aload_n 0, 1) := dk_42 (dk_at dksX0_count_2 0 rfl rfl)
theorem dX0_count_53 : decode cX0_count 53 = .ok (.getfield 11, 3) := dk_180 0 11 (dk_at dksX0_count_2 1 rfl rfl)
theorem dX0_count_56 : decode cX0_count 56 = .ok (.iload_n 1, 1) := dk_27 (dk_at dksX0_count_2 4 rfl rfl)
theorem dX0_count_57 : decode cX0_count 57 = .ok (.iaload, 1) := dk_46 (dk_at dksX0_count_2 5 rfl rfl)
theorem dX0_count_58 : decode cX0_count 58 = .ok (.ireturn, 1) := dk_172 (dk_at dksX0_count_2 6 rfl rfl)
theorem dX0_count_59 : decode cX0_count 59 = .ok (.aload_n 0, 1) := dk_42 (dk_at dksX0_count_2 7 rfl rfl)
theorem dX0_count_60 : decode cX0_count 60 = .ok (.invokevirtual 436, 3) := dk_182 1 180 (dk_at dksX0_count_2 8 rfl rfl)
theorem dX0_count_63 : decode cX0_count 63 = .ok (.ireturn, 1) := dk_172 (dk_at dksX0_count_2 11 rfl rfl)
theorem dX0_count_64 : decode cX0_count 64 = .ok (.aload_n 0, 1) := dk_42 (dk_at dksX0_count_2 12 rfl rfl)
theorem dX0_count_65 : decode cX0_count 65 = .ok (.invokevirtual 439, 3) := dk_182 1 183 (dk_at dksX0_count_2 13 rfl rfl)
theorem dX0_count_68 : decode cX0_count 68 = .ok (.ireturn, 1) := dk_172 (dk_at dksX0_count_2 16 rfl rfl)
theorem dX0_count_69 : decode cX0_count 69 = .ok (.aload_n 0, 1) := dk_42 (dk_at dksX0_count_2 17 rfl rfl)
theorem dX0_count_70 : decode cX0_count 70 = .ok (.invokevirtual 442, 3) := dk_182 1 186 (dk_at dksX0_count_2 18 rfl rfl)
theorem dX0_count_73 : decode cX0_count 73 = .ok (.ireturn, 1) := dk_172 (dk_at dksX0_count_2 21 rfl rfl)
theorem dX0_count_74 : decode cX0_count 74 = .ok (.aload_n 0, 1) := dk_42 (dk_at dksX0_count_2 22 rfl rfl)
theorem dX0_count_75 : decode cX0_count 75 = .ok (.getfield 130, 3) := dk_180 0 130 (dk_at dksX0_count_3 0 rfl rfl)
theorem dX0_count_78 : decode cX0_count 78 = .ok (.iconst 1, 1) := dk_4 (dk_at dksX0_count_3 3 rfl rfl)
theorem dX0_count_79 : decode cX0_count 79 = .ok (.iaload, 1) := dk_46 (dk_at dksX0_count_3 4 rfl rfl)
theorem dX0_count_80 : decode cX0_count 80 = .ok (.ireturn, 1) := dk_172 (dk_at dksX0_count_3 5 rfl rfl)
theorem dX0_count_81 : decode cX0_count 81 = .ok (.aload_n 0, 1) := dk_42 (dk_at dksX0_count_3 6 rfl rfl)
theorem dX0_count_82 : decode cX0_count 82 = .ok (.invokevirtual 445, 3) := dk_182 1 189 (dk_at dksX0_count_3 7 rfl rfl)
theorem dX0_count_85 : decode cX0_count 85 = .ok (.ireturn, 1) := dk_172 (dk_at dksX0_count_3 10 rfl rfl)
theorem dX0_count_86 : decode cX0_count 86 = .ok (.aload_n 0, 1) := dk_42 (dk_at dksX0_count_3 11 rfl rfl)
theorem dX0_count_87 : decode cX0_count 87 = .ok (.invokevirtual 321, 3) := dk_182 1 65 (dk_at dksX0_count_3 12 rfl rfl)
theorem dX0_count_90 : decode cX0_count 90 = .ok (.invokestatic 448, 3) := dk_184 1 192 (dk_at dksX0_count_3 15 rfl rfl)
theorem dX0_count_93 : decode cX0_count 93 = .ok (.ireturn, 1) := dk_172 (dk_at dksX0_count_3 18 rfl rfl)
theorem dX0_count_94 : decode cX0_count 94 = .ok (.aload_n 0, 1) := dk_42 (dk_at dksX0_count_3 19 rfl rfl)
theorem dX0_count_95 : decode cX0_count 95 = .ok (.getfield 397, 3) := dk_180 1 141 (dk_at dksX0_count_3 20 rfl rfl)
theorem dX0_count_98 : decode cX0_count 98 = .ok (.ireturn, 1) := dk_172 (dk_at dksX0_count_3 23 rfl rfl)
theorem dX0_count_99 : decode cX0_count 99 = .ok (.bipush (-2), 2) := dk_16 254 (dk_at dksX0_count_4 0 rfl rfl)
theorem dX0_count_101 : decode cX0_count 101 = .ok (.ireturn, 1) := dk_172 (dk_at dksX0_count_4 2 rfl rfl)
abbrev cX0_pairsOf : ByteArray := prog_1_method_85_code
def yX0_pairsOf : MethodName := ⟨RX0, "pairsOf", "()I"⟩
def dkwX0_pairsOf_0 : List UInt8 := [42, 182, 1, 44, 42, 180, 0, 207, 172]
abbrev dktX0_pairsOf_0 : List UInt8 := dkwX0_pairsOf_0 ++ []
theorem dksX0_pairsOf_0 : cX0_pairsOf.data.toList.drop 0 = dktX0_pairsOf_0 := by decide +kernel
theorem dX0_pairsOf_0 : decode cX0_pairsOf 0 = .ok (.aload_n 0, 1) := dk_42 (dk_at dksX0_pairsOf_0 0 rfl rfl)
theorem dX0_pairsOf_1 : decode cX0_pairsOf 1 = .ok (.invokevirtual 300, 3) := dk_182 1 44 (dk_at dksX0_pairsOf_0 1 rfl rfl)
theorem dX0_pairsOf_4 : decode cX0_pairsOf 4 = .ok (.aload_n 0, 1) := dk_42 (dk_at dksX0_pairsOf_0 4 rfl rfl)
theorem dX0_pairsOf_5 : decode cX0_pairsOf 5 = .ok (.getfield 207, 3) := dk_180 0 207 (dk_at dksX0_pairsOf_0 5 rfl rfl)
theorem dX0_pairsOf_8 : decode cX0_pairsOf 8 = .ok (.ireturn, 1) := dk_172 (dk_at dksX0_pairsOf_0 8 rfl rfl)
abbrev cX0_allConfirmed : ByteArray := prog_1_method_87_code
def yX0_allConfirmed : MethodName := ⟨RX0, "allConfirmed", "()I"⟩
def dkwX0_allConfirmed_0 : List UInt8 := [42, 182, 1, 44, 42, 182, 1, 68, 172]
abbrev dktX0_allConfirmed_0 : List UInt8 := dkwX0_allConfirmed_0 ++ []
theorem dksX0_allConfirmed_0 : cX0_allConfirmed.data.toList.drop 0 = dktX0_allConfirmed_0 := by decide +kernel
theorem dX0_allConfirmed_0 : decode cX0_allConfirmed 0 = .ok (.aload_n 0, 1) := dk_42 (dk_at dksX0_allConfirmed_0 0 rfl rfl)
theorem dX0_allConfirmed_1 : decode cX0_allConfirmed 1 = .ok (.invokevirtual 300, 3) := dk_182 1 44 (dk_at dksX0_allConfirmed_0 1 rfl rfl)
theorem dX0_allConfirmed_4 : decode cX0_allConfirmed 4 = .ok (.aload_n 0, 1) := dk_42 (dk_at dksX0_allConfirmed_0 4 rfl rfl)
theorem dX0_allConfirmed_5 : decode cX0_allConfirmed 5 = .ok (.invokevirtual 324, 3) := dk_182 1 68 (dk_at dksX0_allConfirmed_0 5 rfl rfl)
theorem dX0_allConfirmed_8 : decode cX0_allConfirmed 8 = .ok (.ireturn, 1) := dk_172 (dk_at dksX0_allConfirmed_0 8 rfl rfl)
abbrev cX0_allVotes : ByteArray := prog_1_method_86_code
def yX0_allVotes : MethodName := ⟨RX0, "allVotes", "()I"⟩
def dkwX0_allVotes_0 : List UInt8 := [42, 182, 1, 44, 6, 42, 180, 0, 160, 104, 172]
abbrev dktX0_allVotes_0 : List UInt8 := dkwX0_allVotes_0 ++ []
theorem dksX0_allVotes_0 : cX0_allVotes.data.toList.drop 0 = dktX0_allVotes_0 := by decide +kernel
theorem dX0_allVotes_0 : decode cX0_allVotes 0 = .ok (.aload_n 0, 1) := dk_42 (dk_at dksX0_allVotes_0 0 rfl rfl)
theorem dX0_allVotes_1 : decode cX0_allVotes 1 = .ok (.invokevirtual 300, 3) := dk_182 1 44 (dk_at dksX0_allVotes_0 1 rfl rfl)
theorem dX0_allVotes_4 : decode cX0_allVotes 4 = .ok (.iconst 3, 1) := dk_6 (dk_at dksX0_allVotes_0 4 rfl rfl)
theorem dX0_allVotes_5 : decode cX0_allVotes 5 = .ok (.aload_n 0, 1) := dk_42 (dk_at dksX0_allVotes_0 5 rfl rfl)
theorem dX0_allVotes_6 : decode cX0_allVotes 6 = .ok (.getfield 160, 3) := dk_180 0 160 (dk_at dksX0_allVotes_0 6 rfl rfl)
theorem dX0_allVotes_9 : decode cX0_allVotes 9 = .ok (.imul, 1) := dk_104 (dk_at dksX0_allVotes_0 9 rfl rfl)
theorem dX0_allVotes_10 : decode cX0_allVotes 10 = .ok (.ireturn, 1) := dk_172 (dk_at dksX0_allVotes_0 10 rfl rfl)
abbrev cX0_allLaid : ByteArray := prog_1_method_88_code
def yX0_allLaid : MethodName := ⟨RX0, "allLaid", "()I"⟩
def dkwX0_allLaid_1 : List UInt8 := [27, 172]
abbrev dktX0_allLaid_1 : List UInt8 := dkwX0_allLaid_1 ++ []
def dkwX0_allLaid_0 : List UInt8 := [3, 60, 3, 61, 28, 7, 162, 0, 18, 27, 42, 180, 1, 77, 28, 46, 96, 60, 132, 2, 1, 167, 255, 239]
abbrev dktX0_allLaid_0 : List UInt8 := dkwX0_allLaid_0 ++ dktX0_allLaid_1
theorem dksX0_allLaid_0 : cX0_allLaid.data.toList.drop 0 = dktX0_allLaid_0 := by decide +kernel
theorem dksX0_allLaid_1 : cX0_allLaid.data.toList.drop 24 = dktX0_allLaid_1 := dk_seg dksX0_allLaid_0 24 rfl rfl
theorem dX0_allLaid_0 : decode cX0_allLaid 0 = .ok (.iconst 0, 1) := dk_3 (dk_at dksX0_allLaid_0 0 rfl rfl)
theorem dX0_allLaid_1 : decode cX0_allLaid 1 = .ok (.istore_n 1, 1) := dk_60 (dk_at dksX0_allLaid_0 1 rfl rfl)
theorem dX0_allLaid_2 : decode cX0_allLaid 2 = .ok (.iconst 0, 1) := dk_3 (dk_at dksX0_allLaid_0 2 rfl rfl)
theorem dX0_allLaid_3 : decode cX0_allLaid 3 = .ok (.istore_n 2, 1) := dk_61 (dk_at dksX0_allLaid_0 3 rfl rfl)
theorem dX0_allLaid_4 : decode cX0_allLaid 4 = .ok (.iload_n 2, 1) := dk_28 (dk_at dksX0_allLaid_0 4 rfl rfl)
theorem dX0_allLaid_5 : decode cX0_allLaid 5 = .ok (.iconst 4, 1) := dk_7 (dk_at dksX0_allLaid_0 5 rfl rfl)
theorem dX0_allLaid_6 : decode cX0_allLaid 6 = .ok (.if_icmp .ge 18, 3) := dk_162 0 18 (dk_at dksX0_allLaid_0 6 rfl rfl)
theorem dX0_allLaid_9 : decode cX0_allLaid 9 = .ok (.iload_n 1, 1) := dk_27 (dk_at dksX0_allLaid_0 9 rfl rfl)
theorem dX0_allLaid_10 : decode cX0_allLaid 10 = .ok (.aload_n 0, 1) := dk_42 (dk_at dksX0_allLaid_0 10 rfl rfl)
theorem dX0_allLaid_11 : decode cX0_allLaid 11 = .ok (.getfield 333, 3) := dk_180 1 77 (dk_at dksX0_allLaid_0 11 rfl rfl)
theorem dX0_allLaid_14 : decode cX0_allLaid 14 = .ok (.iload_n 2, 1) := dk_28 (dk_at dksX0_allLaid_0 14 rfl rfl)
theorem dX0_allLaid_15 : decode cX0_allLaid 15 = .ok (.iaload, 1) := dk_46 (dk_at dksX0_allLaid_0 15 rfl rfl)
theorem dX0_allLaid_16 : decode cX0_allLaid 16 = .ok (.iadd, 1) := dk_96 (dk_at dksX0_allLaid_0 16 rfl rfl)
theorem dX0_allLaid_17 : decode cX0_allLaid 17 = .ok (.istore_n 1, 1) := dk_60 (dk_at dksX0_allLaid_0 17 rfl rfl)
theorem dX0_allLaid_18 : decode cX0_allLaid 18 = .ok (.iinc 2 1, 3) := dk_132 2 1 (dk_at dksX0_allLaid_0 18 rfl rfl)
theorem dX0_allLaid_21 : decode cX0_allLaid 21 = .ok (.goto (-17), 3) := dk_167 255 239 (dk_at dksX0_allLaid_0 21 rfl rfl)
theorem dX0_allLaid_24 : decode cX0_allLaid 24 = .ok (.iload_n 1, 1) := dk_27 (dk_at dksX0_allLaid_1 0 rfl rfl)
theorem dX0_allLaid_25 : decode cX0_allLaid 25 = .ok (.ireturn, 1) := dk_172 (dk_at dksX0_allLaid_1 1 rfl rfl)
abbrev cX0_ones : ByteArray := prog_1_method_89_code
def yX0_ones : MethodName := ⟨RX0, "ones", "(I)I"⟩
def dkwX0_ones_0 : List UInt8 := [3, 60, 26, 61, 28, 153, 0, 16, 27, 28, 4, 126, 96, 60, 28, 4, 124, 61, 167, 255, 242, 27, 172]
abbrev dktX0_ones_0 : List UInt8 := dkwX0_ones_0 ++ []
theorem dksX0_ones_0 : cX0_ones.data.toList.drop 0 = dktX0_ones_0 := by decide +kernel
theorem dX0_ones_0 : decode cX0_ones 0 = .ok (.iconst 0, 1) := dk_3 (dk_at dksX0_ones_0 0 rfl rfl)
theorem dX0_ones_1 : decode cX0_ones 1 = .ok (.istore_n 1, 1) := dk_60 (dk_at dksX0_ones_0 1 rfl rfl)
theorem dX0_ones_2 : decode cX0_ones 2 = .ok (.iload_n 0, 1) := dk_26 (dk_at dksX0_ones_0 2 rfl rfl)
theorem dX0_ones_3 : decode cX0_ones 3 = .ok (.istore_n 2, 1) := dk_61 (dk_at dksX0_ones_0 3 rfl rfl)
theorem dX0_ones_4 : decode cX0_ones 4 = .ok (.iload_n 2, 1) := dk_28 (dk_at dksX0_ones_0 4 rfl rfl)
theorem dX0_ones_5 : decode cX0_ones 5 = .ok (.ifCond .eq 16, 3) := dk_153 0 16 (dk_at dksX0_ones_0 5 rfl rfl)
theorem dX0_ones_8 : decode cX0_ones 8 = .ok (.iload_n 1, 1) := dk_27 (dk_at dksX0_ones_0 8 rfl rfl)
theorem dX0_ones_9 : decode cX0_ones 9 = .ok (.iload_n 2, 1) := dk_28 (dk_at dksX0_ones_0 9 rfl rfl)
theorem dX0_ones_10 : decode cX0_ones 10 = .ok (.iconst 1, 1) := dk_4 (dk_at dksX0_ones_0 10 rfl rfl)
theorem dX0_ones_11 : decode cX0_ones 11 = .ok (.iand, 1) := dk_126 (dk_at dksX0_ones_0 11 rfl rfl)
theorem dX0_ones_12 : decode cX0_ones 12 = .ok (.iadd, 1) := dk_96 (dk_at dksX0_ones_0 12 rfl rfl)
theorem dX0_ones_13 : decode cX0_ones 13 = .ok (.istore_n 1, 1) := dk_60 (dk_at dksX0_ones_0 13 rfl rfl)
theorem dX0_ones_14 : decode cX0_ones 14 = .ok (.iload_n 2, 1) := dk_28 (dk_at dksX0_ones_0 14 rfl rfl)
theorem dX0_ones_15 : decode cX0_ones 15 = .ok (.iconst 1, 1) := dk_4 (dk_at dksX0_ones_0 15 rfl rfl)
theorem dX0_ones_16 : decode cX0_ones 16 = .ok (.iushr, 1) := dk_124 (dk_at dksX0_ones_0 16 rfl rfl)
theorem dX0_ones_17 : decode cX0_ones 17 = .ok (.istore_n 2, 1) := dk_61 (dk_at dksX0_ones_0 17 rfl rfl)
theorem dX0_ones_18 : decode cX0_ones 18 = .ok (.goto (-14), 3) := dk_167 255 242 (dk_at dksX0_ones_0 18 rfl rfl)
theorem dX0_ones_21 : decode cX0_ones 21 = .ok (.iload_n 1, 1) := dk_27 (dk_at dksX0_ones_0 21 rfl rfl)
theorem dX0_ones_22 : decode cX0_ones 22 = .ok (.ireturn, 1) := dk_172 (dk_at dksX0_ones_0 22 rfl rfl)
abbrev cX0_digest : ByteArray := prog_1_method_93_code
def yX0_digest : MethodName := ⟨RX0, "digest", "()J"⟩
def dkwX0_digest_10 : List UInt8 := [21, 4, 182, 1, 221, 133, 97, 64, 132, 4, 1, 167, 255, 199, 132, 3, 1, 167, 255, 185, 31, 173]
abbrev dktX0_digest_10 : List UInt8 := dkwX0_digest_10 ++ []
def dkwX0_digest_9 : List UInt8 := [21, 4, 21, 5, 182, 1, 218, 133, 97, 64, 132, 5, 1, 167, 255, 230, 20, 1, 195, 31, 105, 42, 29, 3]
abbrev dktX0_digest_9 : List UInt8 := dkwX0_digest_9 ++ dktX0_digest_10
def dkwX0_digest_8 : List UInt8 := [54, 4, 21, 4, 7, 162, 0, 57, 3, 54, 5, 21, 5, 7, 162, 0, 26, 20, 1, 195, 31, 105, 42, 29]
abbrev dktX0_digest_8 : List UInt8 := dkwX0_digest_8 ++ dktX0_digest_9
def dkwX0_digest_7 : List UInt8 := [133, 97, 64, 20, 1, 195, 31, 105, 42, 4, 182, 1, 74, 133, 97, 64, 3, 62, 29, 7, 162, 0, 72, 3]
abbrev dktX0_digest_7 : List UInt8 := dkwX0_digest_7 ++ dktX0_digest_8
def dkwX0_digest_6 : List UInt8 := [64, 20, 1, 195, 31, 105, 42, 4, 182, 1, 71, 133, 97, 64, 20, 1, 195, 31, 105, 42, 3, 182, 1, 74]
abbrev dktX0_digest_6 : List UInt8 := dkwX0_digest_6 ++ dktX0_digest_7
def dkwX0_digest_5 : List UInt8 := [20, 1, 195, 31, 105, 42, 182, 1, 65, 133, 97, 64, 20, 1, 195, 31, 105, 42, 3, 182, 1, 71, 133, 97]
abbrev dktX0_digest_5 : List UInt8 := dkwX0_digest_5 ++ dktX0_digest_6
def dkwX0_digest_4 : List UInt8 := [29, 182, 1, 212, 64, 132, 3, 1, 167, 255, 236, 20, 1, 195, 31, 105, 42, 182, 1, 215, 133, 97, 64]
abbrev dktX0_digest_4 : List UInt8 := dkwX0_digest_4 ++ dktX0_digest_5
def dkwX0_digest_3 : List UInt8 := [182, 1, 208, 64, 132, 3, 1, 167, 255, 236, 3, 62, 29, 42, 180, 0, 11, 3, 46, 162, 0, 16, 42, 31]
abbrev dktX0_digest_3 : List UInt8 := dkwX0_digest_3 ++ dktX0_digest_4
def dkwX0_digest_2 : List UInt8 := [133, 97, 64, 132, 3, 1, 167, 255, 235, 3, 62, 29, 42, 180, 0, 11, 4, 46, 162, 0, 16, 42, 31, 29]
abbrev dktX0_digest_2 : List UInt8 := dkwX0_digest_2 ++ dktX0_digest_3
def dkwX0_digest_1 : List UInt8 := [64, 132, 3, 1, 167, 255, 234, 3, 62, 29, 7, 162, 0, 22, 20, 1, 195, 31, 105, 42, 29, 182, 1, 50]
abbrev dktX0_digest_1 : List UInt8 := dkwX0_digest_1 ++ dktX0_digest_2
def dkwX0_digest_0 : List UInt8 := [20, 1, 203, 64, 3, 62, 29, 16, 8, 162, 0, 22, 20, 1, 195, 31, 105, 42, 29, 182, 1, 205, 133, 97]
abbrev dktX0_digest_0 : List UInt8 := dkwX0_digest_0 ++ dktX0_digest_1
theorem dksX0_digest_0 : cX0_digest.data.toList.drop 0 = dktX0_digest_0 := by decide +kernel
theorem dksX0_digest_1 : cX0_digest.data.toList.drop 24 = dktX0_digest_1 := dk_seg dksX0_digest_0 24 rfl rfl
theorem dksX0_digest_2 : cX0_digest.data.toList.drop 48 = dktX0_digest_2 := dk_seg dksX0_digest_1 24 rfl rfl
theorem dksX0_digest_3 : cX0_digest.data.toList.drop 72 = dktX0_digest_3 := dk_seg dksX0_digest_2 24 rfl rfl
theorem dksX0_digest_4 : cX0_digest.data.toList.drop 96 = dktX0_digest_4 := dk_seg dksX0_digest_3 24 rfl rfl
theorem dksX0_digest_5 : cX0_digest.data.toList.drop 119 = dktX0_digest_5 := dk_seg dksX0_digest_4 23 rfl rfl
theorem dksX0_digest_6 : cX0_digest.data.toList.drop 143 = dktX0_digest_6 := dk_seg dksX0_digest_5 24 rfl rfl
theorem dksX0_digest_7 : cX0_digest.data.toList.drop 167 = dktX0_digest_7 := dk_seg dksX0_digest_6 24 rfl rfl
theorem dksX0_digest_8 : cX0_digest.data.toList.drop 191 = dktX0_digest_8 := dk_seg dksX0_digest_7 24 rfl rfl
theorem dksX0_digest_9 : cX0_digest.data.toList.drop 215 = dktX0_digest_9 := dk_seg dksX0_digest_8 24 rfl rfl
theorem dksX0_digest_10 : cX0_digest.data.toList.drop 239 = dktX0_digest_10 := dk_seg dksX0_digest_9 24 rfl rfl
theorem dX0_digest_0 : decode cX0_digest 0 = .ok (.ldc2_w 459, 3) := dk_20 1 203 (dk_at dksX0_digest_0 0 rfl rfl)
theorem dX0_digest_3 : decode cX0_digest 3 = .ok (.lstore_n 1, 1) := dk_64 (dk_at dksX0_digest_0 3 rfl rfl)
theorem dX0_digest_4 : decode cX0_digest 4 = .ok (.iconst 0, 1) := dk_3 (dk_at dksX0_digest_0 4 rfl rfl)
theorem dX0_digest_5 : decode cX0_digest 5 = .ok (.istore_n 3, 1) := dk_62 (dk_at dksX0_digest_0 5 rfl rfl)
theorem dX0_digest_6 : decode cX0_digest 6 = .ok (.iload_n 3, 1) := dk_29 (dk_at dksX0_digest_0 6 rfl rfl)
theorem dX0_digest_7 : decode cX0_digest 7 = .ok (.bipush 8, 2) := dk_16 8 (dk_at dksX0_digest_0 7 rfl rfl)
theorem dX0_digest_9 : decode cX0_digest 9 = .ok (.if_icmp .ge 22, 3) := dk_162 0 22 (dk_at dksX0_digest_0 9 rfl rfl)
theorem dX0_digest_12 : decode cX0_digest 12 = .ok (.ldc2_w 451, 3) := dk_20 1 195 (dk_at dksX0_digest_0 12 rfl rfl)
theorem dX0_digest_15 : decode cX0_digest 15 = .ok (.lload_n 1, 1) := dk_31 (dk_at dksX0_digest_0 15 rfl rfl)
theorem dX0_digest_16 : decode cX0_digest 16 = .ok (.lmul, 1) := dk_105 (dk_at dksX0_digest_0 16 rfl rfl)
theorem dX0_digest_17 : decode cX0_digest 17 = .ok (.aload_n 0, 1) := dk_42 (dk_at dksX0_digest_0 17 rfl rfl)
theorem dX0_digest_18 : decode cX0_digest 18 = .ok (.iload_n 3, 1) := dk_29 (dk_at dksX0_digest_0 18 rfl rfl)
theorem dX0_digest_19 : decode cX0_digest 19 = .ok (.invokevirtual 461, 3) := dk_182 1 205 (dk_at dksX0_digest_0 19 rfl rfl)
theorem dX0_digest_22 : decode cX0_digest 22 = .ok (.i2l, 1) := dk_133 (dk_at dksX0_digest_0 22 rfl rfl)
theorem dX0_digest_23 : decode cX0_digest 23 = .ok (.ladd, 1) := dk_97 (dk_at dksX0_digest_0 23 rfl rfl)
theorem dX0_digest_24 : decode cX0_digest 24 = .ok (.lstore_n 1, 1) := dk_64 (dk_at dksX0_digest_1 0 rfl rfl)
theorem dX0_digest_25 : decode cX0_digest 25 = .ok (.iinc 3 1, 3) := dk_132 3 1 (dk_at dksX0_digest_1 1 rfl rfl)
theorem dX0_digest_28 : decode cX0_digest 28 = .ok (.goto (-22), 3) := dk_167 255 234 (dk_at dksX0_digest_1 4 rfl rfl)
theorem dX0_digest_31 : decode cX0_digest 31 = .ok (.iconst 0, 1) := dk_3 (dk_at dksX0_digest_1 7 rfl rfl)
theorem dX0_digest_32 : decode cX0_digest 32 = .ok (.istore_n 3, 1) := dk_62 (dk_at dksX0_digest_1 8 rfl rfl)
theorem dX0_digest_33 : decode cX0_digest 33 = .ok (.iload_n 3, 1) := dk_29 (dk_at dksX0_digest_1 9 rfl rfl)
theorem dX0_digest_34 : decode cX0_digest 34 = .ok (.iconst 4, 1) := dk_7 (dk_at dksX0_digest_1 10 rfl rfl)
theorem dX0_digest_35 : decode cX0_digest 35 = .ok (.if_icmp .ge 22, 3) := dk_162 0 22 (dk_at dksX0_digest_1 11 rfl rfl)
theorem dX0_digest_38 : decode cX0_digest 38 = .ok (.ldc2_w 451, 3) := dk_20 1 195 (dk_at dksX0_digest_1 14 rfl rfl)
theorem dX0_digest_41 : decode cX0_digest 41 = .ok (.lload_n 1, 1) := dk_31 (dk_at dksX0_digest_1 17 rfl rfl)
theorem dX0_digest_42 : decode cX0_digest 42 = .ok (.lmul, 1) := dk_105 (dk_at dksX0_digest_1 18 rfl rfl)
theorem dX0_digest_43 : decode cX0_digest 43 = .ok (.aload_n 0, 1) := dk_42 (dk_at dksX0_digest_1 19 rfl rfl)
theorem dX0_digest_44 : decode cX0_digest 44 = .ok (.iload_n 3, 1) := dk_29 (dk_at dksX0_digest_1 20 rfl rfl)
theorem dX0_digest_45 : decode cX0_digest 45 = .ok (.invokevirtual 306, 3) := dk_182 1 50 (dk_at dksX0_digest_1 21 rfl rfl)
theorem dX0_digest_48 : decode cX0_digest 48 = .ok (.i2l, 1) := dk_133 (dk_at dksX0_digest_2 0 rfl rfl)
theorem dX0_digest_49 : decode cX0_digest 49 = .ok (.ladd, 1) := dk_97 (dk_at dksX0_digest_2 1 rfl rfl)
theorem dX0_digest_50 : decode cX0_digest 50 = .ok (.lstore_n 1, 1) := dk_64 (dk_at dksX0_digest_2 2 rfl rfl)
theorem dX0_digest_51 : decode cX0_digest 51 = .ok (.iinc 3 1, 3) := dk_132 3 1 (dk_at dksX0_digest_2 3 rfl rfl)
theorem dX0_digest_54 : decode cX0_digest 54 = .ok (.goto (-21), 3) := dk_167 255 235 (dk_at dksX0_digest_2 6 rfl rfl)
theorem dX0_digest_57 : decode cX0_digest 57 = .ok (.iconst 0, 1) := dk_3 (dk_at dksX0_digest_2 9 rfl rfl)
theorem dX0_digest_58 : decode cX0_digest 58 = .ok (.istore_n 3, 1) := dk_62 (dk_at dksX0_digest_2 10 rfl rfl)
theorem dX0_digest_59 : decode cX0_digest 59 = .ok (.iload_n 3, 1) := dk_29 (dk_at dksX0_digest_2 11 rfl rfl)
theorem dX0_digest_60 : decode cX0_digest 60 = .ok (.aload_n 0, 1) := dk_42 (dk_at dksX0_digest_2 12 rfl rfl)
theorem dX0_digest_61 : decode cX0_digest 61 = .ok (.getfield 11, 3) := dk_180 0 11 (dk_at dksX0_digest_2 13 rfl rfl)
theorem dX0_digest_64 : decode cX0_digest 64 = .ok (.iconst 1, 1) := dk_4 (dk_at dksX0_digest_2 16 rfl rfl)
theorem dX0_digest_65 : decode cX0_digest 65 = .ok (.iaload, 1) := dk_46 (dk_at dksX0_digest_2 17 rfl rfl)
theorem dX0_digest_66 : decode cX0_digest 66 = .ok (.if_icmp .ge 16, 3) := dk_162 0 16 (dk_at dksX0_digest_2 18 rfl rfl)
theorem dX0_digest_69 : decode cX0_digest 69 = .ok (.aload_n 0, 1) := dk_42 (dk_at dksX0_digest_2 21 rfl rfl)
theorem dX0_digest_70 : decode cX0_digest 70 = .ok (.lload_n 1, 1) := dk_31 (dk_at dksX0_digest_2 22 rfl rfl)
theorem dX0_digest_71 : decode cX0_digest 71 = .ok (.iload_n 3, 1) := dk_29 (dk_at dksX0_digest_2 23 rfl rfl)
theorem dX0_digest_72 : decode cX0_digest 72 = .ok (.invokevirtual 464, 3) := dk_182 1 208 (dk_at dksX0_digest_3 0 rfl rfl)
theorem dX0_digest_75 : decode cX0_digest 75 = .ok (.lstore_n 1, 1) := dk_64 (dk_at dksX0_digest_3 3 rfl rfl)
theorem dX0_digest_76 : decode cX0_digest 76 = .ok (.iinc 3 1, 3) := dk_132 3 1 (dk_at dksX0_digest_3 4 rfl rfl)
theorem dX0_digest_79 : decode cX0_digest 79 = .ok (.goto (-20), 3) := dk_167 255 236 (dk_at dksX0_digest_3 7 rfl rfl)
theorem dX0_digest_82 : decode cX0_digest 82 = .ok (.iconst 0, 1) := dk_3 (dk_at dksX0_digest_3 10 rfl rfl)
theorem dX0_digest_83 : decode cX0_digest 83 = .ok (.istore_n 3, 1) := dk_62 (dk_at dksX0_digest_3 11 rfl rfl)
theorem dX0_digest_84 : decode cX0_digest 84 = .ok (.iload_n 3, 1) := dk_29 (dk_at dksX0_digest_3 12 rfl rfl)
theorem dX0_digest_85 : decode cX0_digest 85 = .ok (.aload_n 0, 1) := dk_42 (dk_at dksX0_digest_3 13 rfl rfl)
theorem dX0_digest_86 : decode cX0_digest 86 = .ok (.getfield 11, 3) := dk_180 0 11 (dk_at dksX0_digest_3 14 rfl rfl)
theorem dX0_digest_89 : decode cX0_digest 89 = .ok (.iconst 0, 1) := dk_3 (dk_at dksX0_digest_3 17 rfl rfl)
theorem dX0_digest_90 : decode cX0_digest 90 = .ok (.iaload, 1) := dk_46 (dk_at dksX0_digest_3 18 rfl rfl)
theorem dX0_digest_91 : decode cX0_digest 91 = .ok (.if_icmp .ge 16, 3) := dk_162 0 16 (dk_at dksX0_digest_3 19 rfl rfl)
theorem dX0_digest_94 : decode cX0_digest 94 = .ok (.aload_n 0, 1) := dk_42 (dk_at dksX0_digest_3 22 rfl rfl)
theorem dX0_digest_95 : decode cX0_digest 95 = .ok (.lload_n 1, 1) := dk_31 (dk_at dksX0_digest_3 23 rfl rfl)
theorem dX0_digest_96 : decode cX0_digest 96 = .ok (.iload_n 3, 1) := dk_29 (dk_at dksX0_digest_4 0 rfl rfl)
theorem dX0_digest_97 : decode cX0_digest 97 = .ok (.invokevirtual 468, 3) := dk_182 1 212 (dk_at dksX0_digest_4 1 rfl rfl)
theorem dX0_digest_100 : decode cX0_digest 100 = .ok (.lstore_n 1, 1) := dk_64 (dk_at dksX0_digest_4 4 rfl rfl)
theorem dX0_digest_101 : decode cX0_digest 101 = .ok (.iinc 3 1, 3) := dk_132 3 1 (dk_at dksX0_digest_4 5 rfl rfl)
theorem dX0_digest_104 : decode cX0_digest 104 = .ok (.goto (-20), 3) := dk_167 255 236 (dk_at dksX0_digest_4 8 rfl rfl)
theorem dX0_digest_107 : decode cX0_digest 107 = .ok (.ldc2_w 451, 3) := dk_20 1 195 (dk_at dksX0_digest_4 11 rfl rfl)
theorem dX0_digest_110 : decode cX0_digest 110 = .ok (.lload_n 1, 1) := dk_31 (dk_at dksX0_digest_4 14 rfl rfl)
theorem dX0_digest_111 : decode cX0_digest 111 = .ok (.lmul, 1) := dk_105 (dk_at dksX0_digest_4 15 rfl rfl)
theorem dX0_digest_112 : decode cX0_digest 112 = .ok (.aload_n 0, 1) := dk_42 (dk_at dksX0_digest_4 16 rfl rfl)
theorem dX0_digest_113 : decode cX0_digest 113 = .ok (.invokevirtual 471, 3) := dk_182 1 215 (dk_at dksX0_digest_4 17 rfl rfl)
theorem dX0_digest_116 : decode cX0_digest 116 = .ok (.i2l, 1) := dk_133 (dk_at dksX0_digest_4 20 rfl rfl)
theorem dX0_digest_117 : decode cX0_digest 117 = .ok (.ladd, 1) := dk_97 (dk_at dksX0_digest_4 21 rfl rfl)
theorem dX0_digest_118 : decode cX0_digest 118 = .ok (.lstore_n 1, 1) := dk_64 (dk_at dksX0_digest_4 22 rfl rfl)
theorem dX0_digest_119 : decode cX0_digest 119 = .ok (.ldc2_w 451, 3) := dk_20 1 195 (dk_at dksX0_digest_5 0 rfl rfl)
theorem dX0_digest_122 : decode cX0_digest 122 = .ok (.lload_n 1, 1) := dk_31 (dk_at dksX0_digest_5 3 rfl rfl)
theorem dX0_digest_123 : decode cX0_digest 123 = .ok (.lmul, 1) := dk_105 (dk_at dksX0_digest_5 4 rfl rfl)
theorem dX0_digest_124 : decode cX0_digest 124 = .ok (.aload_n 0, 1) := dk_42 (dk_at dksX0_digest_5 5 rfl rfl)
theorem dX0_digest_125 : decode cX0_digest 125 = .ok (.invokevirtual 321, 3) := dk_182 1 65 (dk_at dksX0_digest_5 6 rfl rfl)
theorem dX0_digest_128 : decode cX0_digest 128 = .ok (.i2l, 1) := dk_133 (dk_at dksX0_digest_5 9 rfl rfl)
theorem dX0_digest_129 : decode cX0_digest 129 = .ok (.ladd, 1) := dk_97 (dk_at dksX0_digest_5 10 rfl rfl)
theorem dX0_digest_130 : decode cX0_digest 130 = .ok (.lstore_n 1, 1) := dk_64 (dk_at dksX0_digest_5 11 rfl rfl)
theorem dX0_digest_131 : decode cX0_digest 131 = .ok (.ldc2_w 451, 3) := dk_20 1 195 (dk_at dksX0_digest_5 12 rfl rfl)
theorem dX0_digest_134 : decode cX0_digest 134 = .ok (.lload_n 1, 1) := dk_31 (dk_at dksX0_digest_5 15 rfl rfl)
theorem dX0_digest_135 : decode cX0_digest 135 = .ok (.lmul, 1) := dk_105 (dk_at dksX0_digest_5 16 rfl rfl)
theorem dX0_digest_136 : decode cX0_digest 136 = .ok (.aload_n 0, 1) := dk_42 (dk_at dksX0_digest_5 17 rfl rfl)
theorem dX0_digest_137 : decode cX0_digest 137 = .ok (.iconst 0, 1) := dk_3 (dk_at dksX0_digest_5 18 rfl rfl)
theorem dX0_digest_138 : decode cX0_digest 138 = .ok (.invokevirtual 327, 3) := dk_182 1 71 (dk_at dksX0_digest_5 19 rfl rfl)
theorem dX0_digest_141 : decode cX0_digest 141 = .ok (.i2l, 1) := dk_133 (dk_at dksX0_digest_5 22 rfl rfl)
theorem dX0_digest_142 : decode cX0_digest 142 = .ok (.ladd, 1) := dk_97 (dk_at dksX0_digest_5 23 rfl rfl)
theorem dX0_digest_143 : decode cX0_digest 143 = .ok (.lstore_n 1, 1) := dk_64 (dk_at dksX0_digest_6 0 rfl rfl)
theorem dX0_digest_144 : decode cX0_digest 144 = .ok (.ldc2_w 451, 3) := dk_20 1 195 (dk_at dksX0_digest_6 1 rfl rfl)
theorem dX0_digest_147 : decode cX0_digest 147 = .ok (.lload_n 1, 1) := dk_31 (dk_at dksX0_digest_6 4 rfl rfl)
theorem dX0_digest_148 : decode cX0_digest 148 = .ok (.lmul, 1) := dk_105 (dk_at dksX0_digest_6 5 rfl rfl)
theorem dX0_digest_149 : decode cX0_digest 149 = .ok (.aload_n 0, 1) := dk_42 (dk_at dksX0_digest_6 6 rfl rfl)
theorem dX0_digest_150 : decode cX0_digest 150 = .ok (.iconst 1, 1) := dk_4 (dk_at dksX0_digest_6 7 rfl rfl)
theorem dX0_digest_151 : decode cX0_digest 151 = .ok (.invokevirtual 327, 3) := dk_182 1 71 (dk_at dksX0_digest_6 8 rfl rfl)
theorem dX0_digest_154 : decode cX0_digest 154 = .ok (.i2l, 1) := dk_133 (dk_at dksX0_digest_6 11 rfl rfl)
theorem dX0_digest_155 : decode cX0_digest 155 = .ok (.ladd, 1) := dk_97 (dk_at dksX0_digest_6 12 rfl rfl)
theorem dX0_digest_156 : decode cX0_digest 156 = .ok (.lstore_n 1, 1) := dk_64 (dk_at dksX0_digest_6 13 rfl rfl)
theorem dX0_digest_157 : decode cX0_digest 157 = .ok (.ldc2_w 451, 3) := dk_20 1 195 (dk_at dksX0_digest_6 14 rfl rfl)
theorem dX0_digest_160 : decode cX0_digest 160 = .ok (.lload_n 1, 1) := dk_31 (dk_at dksX0_digest_6 17 rfl rfl)
theorem dX0_digest_161 : decode cX0_digest 161 = .ok (.lmul, 1) := dk_105 (dk_at dksX0_digest_6 18 rfl rfl)
theorem dX0_digest_162 : decode cX0_digest 162 = .ok (.aload_n 0, 1) := dk_42 (dk_at dksX0_digest_6 19 rfl rfl)
theorem dX0_digest_163 : decode cX0_digest 163 = .ok (.iconst 0, 1) := dk_3 (dk_at dksX0_digest_6 20 rfl rfl)
theorem dX0_digest_164 : decode cX0_digest 164 = .ok (.invokevirtual 330, 3) := dk_182 1 74 (dk_at dksX0_digest_6 21 rfl rfl)
theorem dX0_digest_167 : decode cX0_digest 167 = .ok (.i2l, 1) := dk_133 (dk_at dksX0_digest_7 0 rfl rfl)
theorem dX0_digest_168 : decode cX0_digest 168 = .ok (.ladd, 1) := dk_97 (dk_at dksX0_digest_7 1 rfl rfl)
theorem dX0_digest_169 : decode cX0_digest 169 = .ok (.lstore_n 1, 1) := dk_64 (dk_at dksX0_digest_7 2 rfl rfl)
theorem dX0_digest_170 : decode cX0_digest 170 = .ok (.ldc2_w 451, 3) := dk_20 1 195 (dk_at dksX0_digest_7 3 rfl rfl)
theorem dX0_digest_173 : decode cX0_digest 173 = .ok (.lload_n 1, 1) := dk_31 (dk_at dksX0_digest_7 6 rfl rfl)
theorem dX0_digest_174 : decode cX0_digest 174 = .ok (.lmul, 1) := dk_105 (dk_at dksX0_digest_7 7 rfl rfl)
theorem dX0_digest_175 : decode cX0_digest 175 = .ok (.aload_n 0, 1) := dk_42 (dk_at dksX0_digest_7 8 rfl rfl)
theorem dX0_digest_176 : decode cX0_digest 176 = .ok (.iconst 1, 1) := dk_4 (dk_at dksX0_digest_7 9 rfl rfl)
theorem dX0_digest_177 : decode cX0_digest 177 = .ok (.invokevirtual 330, 3) := dk_182 1 74 (dk_at dksX0_digest_7 10 rfl rfl)
theorem dX0_digest_180 : decode cX0_digest 180 = .ok (.i2l, 1) := dk_133 (dk_at dksX0_digest_7 13 rfl rfl)
theorem dX0_digest_181 : decode cX0_digest 181 = .ok (.ladd, 1) := dk_97 (dk_at dksX0_digest_7 14 rfl rfl)
theorem dX0_digest_182 : decode cX0_digest 182 = .ok (.lstore_n 1, 1) := dk_64 (dk_at dksX0_digest_7 15 rfl rfl)
theorem dX0_digest_183 : decode cX0_digest 183 = .ok (.iconst 0, 1) := dk_3 (dk_at dksX0_digest_7 16 rfl rfl)
theorem dX0_digest_184 : decode cX0_digest 184 = .ok (.istore_n 3, 1) := dk_62 (dk_at dksX0_digest_7 17 rfl rfl)
theorem dX0_digest_185 : decode cX0_digest 185 = .ok (.iload_n 3, 1) := dk_29 (dk_at dksX0_digest_7 18 rfl rfl)
theorem dX0_digest_186 : decode cX0_digest 186 = .ok (.iconst 4, 1) := dk_7 (dk_at dksX0_digest_7 19 rfl rfl)
theorem dX0_digest_187 : decode cX0_digest 187 = .ok (.if_icmp .ge 72, 3) := dk_162 0 72 (dk_at dksX0_digest_7 20 rfl rfl)
theorem dX0_digest_190 : decode cX0_digest 190 = .ok (.iconst 0, 1) := dk_3 (dk_at dksX0_digest_7 23 rfl rfl)
theorem dX0_digest_191 : decode cX0_digest 191 = .ok (.istore 4, 2) := dk_54 4 (dk_at dksX0_digest_8 0 rfl rfl)
theorem dX0_digest_193 : decode cX0_digest 193 = .ok (.iload 4, 2) := dk_21 4 (dk_at dksX0_digest_8 2 rfl rfl)
theorem dX0_digest_195 : decode cX0_digest 195 = .ok (.iconst 4, 1) := dk_7 (dk_at dksX0_digest_8 4 rfl rfl)
theorem dX0_digest_196 : decode cX0_digest 196 = .ok (.if_icmp .ge 57, 3) := dk_162 0 57 (dk_at dksX0_digest_8 5 rfl rfl)
theorem dX0_digest_199 : decode cX0_digest 199 = .ok (.iconst 0, 1) := dk_3 (dk_at dksX0_digest_8 8 rfl rfl)
theorem dX0_digest_200 : decode cX0_digest 200 = .ok (.istore 5, 2) := dk_54 5 (dk_at dksX0_digest_8 9 rfl rfl)
theorem dX0_digest_202 : decode cX0_digest 202 = .ok (.iload 5, 2) := dk_21 5 (dk_at dksX0_digest_8 11 rfl rfl)
theorem dX0_digest_204 : decode cX0_digest 204 = .ok (.iconst 4, 1) := dk_7 (dk_at dksX0_digest_8 13 rfl rfl)
theorem dX0_digest_205 : decode cX0_digest 205 = .ok (.if_icmp .ge 26, 3) := dk_162 0 26 (dk_at dksX0_digest_8 14 rfl rfl)
theorem dX0_digest_208 : decode cX0_digest 208 = .ok (.ldc2_w 451, 3) := dk_20 1 195 (dk_at dksX0_digest_8 17 rfl rfl)
theorem dX0_digest_211 : decode cX0_digest 211 = .ok (.lload_n 1, 1) := dk_31 (dk_at dksX0_digest_8 20 rfl rfl)
theorem dX0_digest_212 : decode cX0_digest 212 = .ok (.lmul, 1) := dk_105 (dk_at dksX0_digest_8 21 rfl rfl)
theorem dX0_digest_213 : decode cX0_digest 213 = .ok (.aload_n 0, 1) := dk_42 (dk_at dksX0_digest_8 22 rfl rfl)
theorem dX0_digest_214 : decode cX0_digest 214 = .ok (.iload_n 3, 1) := dk_29 (dk_at dksX0_digest_8 23 rfl rfl)
theorem dX0_digest_215 : decode cX0_digest 215 = .ok (.iload 4, 2) := dk_21 4 (dk_at dksX0_digest_9 0 rfl rfl)
theorem dX0_digest_217 : decode cX0_digest 217 = .ok (.iload 5, 2) := dk_21 5 (dk_at dksX0_digest_9 2 rfl rfl)
theorem dX0_digest_219 : decode cX0_digest 219 = .ok (.invokevirtual 474, 3) := dk_182 1 218 (dk_at dksX0_digest_9 4 rfl rfl)
theorem dX0_digest_222 : decode cX0_digest 222 = .ok (.i2l, 1) := dk_133 (dk_at dksX0_digest_9 7 rfl rfl)
theorem dX0_digest_223 : decode cX0_digest 223 = .ok (.ladd, 1) := dk_97 (dk_at dksX0_digest_9 8 rfl rfl)
theorem dX0_digest_224 : decode cX0_digest 224 = .ok (.lstore_n 1, 1) := dk_64 (dk_at dksX0_digest_9 9 rfl rfl)
theorem dX0_digest_225 : decode cX0_digest 225 = .ok (.iinc 5 1, 3) := dk_132 5 1 (dk_at dksX0_digest_9 10 rfl rfl)
theorem dX0_digest_228 : decode cX0_digest 228 = .ok (.goto (-26), 3) := dk_167 255 230 (dk_at dksX0_digest_9 13 rfl rfl)
theorem dX0_digest_231 : decode cX0_digest 231 = .ok (.ldc2_w 451, 3) := dk_20 1 195 (dk_at dksX0_digest_9 16 rfl rfl)
theorem dX0_digest_234 : decode cX0_digest 234 = .ok (.lload_n 1, 1) := dk_31 (dk_at dksX0_digest_9 19 rfl rfl)
theorem dX0_digest_235 : decode cX0_digest 235 = .ok (.lmul, 1) := dk_105 (dk_at dksX0_digest_9 20 rfl rfl)
theorem dX0_digest_236 : decode cX0_digest 236 = .ok (.aload_n 0, 1) := dk_42 (dk_at dksX0_digest_9 21 rfl rfl)
theorem dX0_digest_237 : decode cX0_digest 237 = .ok (.iload_n 3, 1) := dk_29 (dk_at dksX0_digest_9 22 rfl rfl)
theorem dX0_digest_238 : decode cX0_digest 238 = .ok (.iconst 0, 1) := dk_3 (dk_at dksX0_digest_9 23 rfl rfl)
theorem dX0_digest_239 : decode cX0_digest 239 = .ok (.iload 4, 2) := dk_21 4 (dk_at dksX0_digest_10 0 rfl rfl)
theorem dX0_digest_241 : decode cX0_digest 241 = .ok (.invokevirtual 477, 3) := dk_182 1 221 (dk_at dksX0_digest_10 2 rfl rfl)
theorem dX0_digest_244 : decode cX0_digest 244 = .ok (.i2l, 1) := dk_133 (dk_at dksX0_digest_10 5 rfl rfl)
theorem dX0_digest_245 : decode cX0_digest 245 = .ok (.ladd, 1) := dk_97 (dk_at dksX0_digest_10 6 rfl rfl)
theorem dX0_digest_246 : decode cX0_digest 246 = .ok (.lstore_n 1, 1) := dk_64 (dk_at dksX0_digest_10 7 rfl rfl)
theorem dX0_digest_247 : decode cX0_digest 247 = .ok (.iinc 4 1, 3) := dk_132 4 1 (dk_at dksX0_digest_10 8 rfl rfl)
theorem dX0_digest_250 : decode cX0_digest 250 = .ok (.goto (-57), 3) := dk_167 255 199 (dk_at dksX0_digest_10 11 rfl rfl)
theorem dX0_digest_253 : decode cX0_digest 253 = .ok (.iinc 3 1, 3) := dk_132 3 1 (dk_at dksX0_digest_10 14 rfl rfl)
theorem dX0_digest_256 : decode cX0_digest 256 = .ok (.goto (-71), 3) := dk_167 255 185 (dk_at dksX0_digest_10 17 rfl rfl)
theorem dX0_digest_259 : decode cX0_digest 259 = .ok (.lload_n 1, 1) := dk_31 (dk_at dksX0_digest_10 20 rfl rfl)
theorem dX0_digest_260 : decode cX0_digest 260 = .ok (.lreturn, 1) := dk_173 (dk_at dksX0_digest_10 21 rfl rfl)
abbrev cX0_spotDigest : ByteArray := prog_1_method_91_code
def yX0_spotDigest : MethodName := ⟨RX0, "spotDigest", "(JI)J"⟩
def dkwX0_spotDigest_4 : List UInt8 := [55, 4, 132, 6, 1, 167, 255, 225, 22, 4, 173]
abbrev dktX0_spotDigest_4 : List UInt8 := dkwX0_spotDigest_4 ++ []
def dkwX0_spotDigest_3 : List UInt8 := [180, 0, 11, 3, 46, 162, 0, 26, 20, 1, 195, 22, 4, 105, 42, 29, 21, 6, 182, 1, 53, 133, 97]
abbrev dktX0_spotDigest_3 : List UInt8 := dkwX0_spotDigest_3 ++ dktX0_spotDigest_4
def dkwX0_spotDigest_2 : List UInt8 := [20, 1, 195, 22, 4, 105, 42, 29, 4, 182, 1, 62, 133, 97, 55, 4, 3, 54, 6, 21, 6, 42]
abbrev dktX0_spotDigest_2 : List UInt8 := dkwX0_spotDigest_2 ++ dktX0_spotDigest_3
def dkwX0_spotDigest_1 : List UInt8 := [182, 1, 56, 133, 97, 55, 4, 20, 1, 195, 22, 4, 105, 42, 29, 3, 182, 1, 62, 133, 97, 55, 4]
abbrev dktX0_spotDigest_1 : List UInt8 := dkwX0_spotDigest_1 ++ dktX0_spotDigest_2
def dkwX0_spotDigest_0 : List UInt8 := [20, 1, 195, 31, 105, 42, 29, 3, 182, 1, 56, 133, 97, 55, 4, 20, 1, 195, 22, 4, 105, 42, 29, 4]
abbrev dktX0_spotDigest_0 : List UInt8 := dkwX0_spotDigest_0 ++ dktX0_spotDigest_1
theorem dksX0_spotDigest_0 : cX0_spotDigest.data.toList.drop 0 = dktX0_spotDigest_0 := by decide +kernel
theorem dksX0_spotDigest_1 : cX0_spotDigest.data.toList.drop 24 = dktX0_spotDigest_1 := dk_seg dksX0_spotDigest_0 24 rfl rfl
theorem dksX0_spotDigest_2 : cX0_spotDigest.data.toList.drop 47 = dktX0_spotDigest_2 := dk_seg dksX0_spotDigest_1 23 rfl rfl
theorem dksX0_spotDigest_3 : cX0_spotDigest.data.toList.drop 69 = dktX0_spotDigest_3 := dk_seg dksX0_spotDigest_2 22 rfl rfl
theorem dksX0_spotDigest_4 : cX0_spotDigest.data.toList.drop 92 = dktX0_spotDigest_4 := dk_seg dksX0_spotDigest_3 23 rfl rfl
theorem dX0_spotDigest_0 : decode cX0_spotDigest 0 = .ok (.ldc2_w 451, 3) := dk_20 1 195 (dk_at dksX0_spotDigest_0 0 rfl rfl)
theorem dX0_spotDigest_3 : decode cX0_spotDigest 3 = .ok (.lload_n 1, 1) := dk_31 (dk_at dksX0_spotDigest_0 3 rfl rfl)
theorem dX0_spotDigest_4 : decode cX0_spotDigest 4 = .ok (.lmul, 1) := dk_105 (dk_at dksX0_spotDigest_0 4 rfl rfl)
theorem dX0_spotDigest_5 : decode cX0_spotDigest 5 = .ok (.aload_n 0, 1) := dk_42 (dk_at dksX0_spotDigest_0 5 rfl rfl)
theorem dX0_spotDigest_6 : decode cX0_spotDigest 6 = .ok (.iload_n 3, 1) := dk_29 (dk_at dksX0_spotDigest_0 6 rfl rfl)
theorem dX0_spotDigest_7 : decode cX0_spotDigest 7 = .ok (.iconst 0, 1) := dk_3 (dk_at dksX0_spotDigest_0 7 rfl rfl)
theorem dX0_spotDigest_8 : decode cX0_spotDigest 8 = .ok (.invokevirtual 312, 3) := dk_182 1 56 (dk_at dksX0_spotDigest_0 8 rfl rfl)
theorem dX0_spotDigest_11 : decode cX0_spotDigest 11 = .ok (.i2l, 1) := dk_133 (dk_at dksX0_spotDigest_0 11 rfl rfl)
theorem dX0_spotDigest_12 : decode cX0_spotDigest 12 = .ok (.ladd, 1) := dk_97 (dk_at dksX0_spotDigest_0 12 rfl rfl)
theorem dX0_spotDigest_13 : decode cX0_spotDigest 13 = .ok (.lstore 4, 2) := dk_55 4 (dk_at dksX0_spotDigest_0 13 rfl rfl)
theorem dX0_spotDigest_15 : decode cX0_spotDigest 15 = .ok (.ldc2_w 451, 3) := dk_20 1 195 (dk_at dksX0_spotDigest_0 15 rfl rfl)
theorem dX0_spotDigest_18 : decode cX0_spotDigest 18 = .ok (.lload 4, 2) := dk_22 4 (dk_at dksX0_spotDigest_0 18 rfl rfl)
theorem dX0_spotDigest_20 : decode cX0_spotDigest 20 = .ok (.lmul, 1) := dk_105 (dk_at dksX0_spotDigest_0 20 rfl rfl)
theorem dX0_spotDigest_21 : decode cX0_spotDigest 21 = .ok (.aload_n 0, 1) := dk_42 (dk_at dksX0_spotDigest_0 21 rfl rfl)
theorem dX0_spotDigest_22 : decode cX0_spotDigest 22 = .ok (.iload_n 3, 1) := dk_29 (dk_at dksX0_spotDigest_0 22 rfl rfl)
theorem dX0_spotDigest_23 : decode cX0_spotDigest 23 = .ok (.iconst 1, 1) := dk_4 (dk_at dksX0_spotDigest_0 23 rfl rfl)
theorem dX0_spotDigest_24 : decode cX0_spotDigest 24 = .ok (.invokevirtual 312, 3) := dk_182 1 56 (dk_at dksX0_spotDigest_1 0 rfl rfl)
theorem dX0_spotDigest_27 : decode cX0_spotDigest 27 = .ok (.i2l, 1) := dk_133 (dk_at dksX0_spotDigest_1 3 rfl rfl)
theorem dX0_spotDigest_28 : decode cX0_spotDigest 28 = .ok (.ladd, 1) := dk_97 (dk_at dksX0_spotDigest_1 4 rfl rfl)
theorem dX0_spotDigest_29 : decode cX0_spotDigest 29 = .ok (.lstore 4, 2) := dk_55 4 (dk_at dksX0_spotDigest_1 5 rfl rfl)
theorem dX0_spotDigest_31 : decode cX0_spotDigest 31 = .ok (.ldc2_w 451, 3) := dk_20 1 195 (dk_at dksX0_spotDigest_1 7 rfl rfl)
theorem dX0_spotDigest_34 : decode cX0_spotDigest 34 = .ok (.lload 4, 2) := dk_22 4 (dk_at dksX0_spotDigest_1 10 rfl rfl)
theorem dX0_spotDigest_36 : decode cX0_spotDigest 36 = .ok (.lmul, 1) := dk_105 (dk_at dksX0_spotDigest_1 12 rfl rfl)
theorem dX0_spotDigest_37 : decode cX0_spotDigest 37 = .ok (.aload_n 0, 1) := dk_42 (dk_at dksX0_spotDigest_1 13 rfl rfl)
theorem dX0_spotDigest_38 : decode cX0_spotDigest 38 = .ok (.iload_n 3, 1) := dk_29 (dk_at dksX0_spotDigest_1 14 rfl rfl)
theorem dX0_spotDigest_39 : decode cX0_spotDigest 39 = .ok (.iconst 0, 1) := dk_3 (dk_at dksX0_spotDigest_1 15 rfl rfl)
theorem dX0_spotDigest_40 : decode cX0_spotDigest 40 = .ok (.invokevirtual 318, 3) := dk_182 1 62 (dk_at dksX0_spotDigest_1 16 rfl rfl)
theorem dX0_spotDigest_43 : decode cX0_spotDigest 43 = .ok (.i2l, 1) := dk_133 (dk_at dksX0_spotDigest_1 19 rfl rfl)
theorem dX0_spotDigest_44 : decode cX0_spotDigest 44 = .ok (.ladd, 1) := dk_97 (dk_at dksX0_spotDigest_1 20 rfl rfl)
theorem dX0_spotDigest_45 : decode cX0_spotDigest 45 = .ok (.lstore 4, 2) := dk_55 4 (dk_at dksX0_spotDigest_1 21 rfl rfl)
theorem dX0_spotDigest_47 : decode cX0_spotDigest 47 = .ok (.ldc2_w 451, 3) := dk_20 1 195 (dk_at dksX0_spotDigest_2 0 rfl rfl)
theorem dX0_spotDigest_50 : decode cX0_spotDigest 50 = .ok (.lload 4, 2) := dk_22 4 (dk_at dksX0_spotDigest_2 3 rfl rfl)
theorem dX0_spotDigest_52 : decode cX0_spotDigest 52 = .ok (.lmul, 1) := dk_105 (dk_at dksX0_spotDigest_2 5 rfl rfl)
theorem dX0_spotDigest_53 : decode cX0_spotDigest 53 = .ok (.aload_n 0, 1) := dk_42 (dk_at dksX0_spotDigest_2 6 rfl rfl)
theorem dX0_spotDigest_54 : decode cX0_spotDigest 54 = .ok (.iload_n 3, 1) := dk_29 (dk_at dksX0_spotDigest_2 7 rfl rfl)
theorem dX0_spotDigest_55 : decode cX0_spotDigest 55 = .ok (.iconst 1, 1) := dk_4 (dk_at dksX0_spotDigest_2 8 rfl rfl)
theorem dX0_spotDigest_56 : decode cX0_spotDigest 56 = .ok (.invokevirtual 318, 3) := dk_182 1 62 (dk_at dksX0_spotDigest_2 9 rfl rfl)
theorem dX0_spotDigest_59 : decode cX0_spotDigest 59 = .ok (.i2l, 1) := dk_133 (dk_at dksX0_spotDigest_2 12 rfl rfl)
theorem dX0_spotDigest_60 : decode cX0_spotDigest 60 = .ok (.ladd, 1) := dk_97 (dk_at dksX0_spotDigest_2 13 rfl rfl)
theorem dX0_spotDigest_61 : decode cX0_spotDigest 61 = .ok (.lstore 4, 2) := dk_55 4 (dk_at dksX0_spotDigest_2 14 rfl rfl)
theorem dX0_spotDigest_63 : decode cX0_spotDigest 63 = .ok (.iconst 0, 1) := dk_3 (dk_at dksX0_spotDigest_2 16 rfl rfl)
theorem dX0_spotDigest_64 : decode cX0_spotDigest 64 = .ok (.istore 6, 2) := dk_54 6 (dk_at dksX0_spotDigest_2 17 rfl rfl)
theorem dX0_spotDigest_66 : decode cX0_spotDigest 66 = .ok (.iload 6, 2) := dk_21 6 (dk_at dksX0_spotDigest_2 19 rfl rfl)
theorem dX0_spotDigest_68 : decode cX0_spotDigest 68 = .ok (.aload_n 0, 1) := dk_42 (dk_at dksX0_spotDigest_2 21 rfl rfl)
theorem dX0_spotDigest_69 : decode cX0_spotDigest 69 = .ok (.getfield 11, 3) := dk_180 0 11 (dk_at dksX0_spotDigest_3 0 rfl rfl)
theorem dX0_spotDigest_72 : decode cX0_spotDigest 72 = .ok (.iconst 0, 1) := dk_3 (dk_at dksX0_spotDigest_3 3 rfl rfl)
theorem dX0_spotDigest_73 : decode cX0_spotDigest 73 = .ok (.iaload, 1) := dk_46 (dk_at dksX0_spotDigest_3 4 rfl rfl)
theorem dX0_spotDigest_74 : decode cX0_spotDigest 74 = .ok (.if_icmp .ge 26, 3) := dk_162 0 26 (dk_at dksX0_spotDigest_3 5 rfl rfl)
theorem dX0_spotDigest_77 : decode cX0_spotDigest 77 = .ok (.ldc2_w 451, 3) := dk_20 1 195 (dk_at dksX0_spotDigest_3 8 rfl rfl)
theorem dX0_spotDigest_80 : decode cX0_spotDigest 80 = .ok (.lload 4, 2) := dk_22 4 (dk_at dksX0_spotDigest_3 11 rfl rfl)
theorem dX0_spotDigest_82 : decode cX0_spotDigest 82 = .ok (.lmul, 1) := dk_105 (dk_at dksX0_spotDigest_3 13 rfl rfl)
theorem dX0_spotDigest_83 : decode cX0_spotDigest 83 = .ok (.aload_n 0, 1) := dk_42 (dk_at dksX0_spotDigest_3 14 rfl rfl)
theorem dX0_spotDigest_84 : decode cX0_spotDigest 84 = .ok (.iload_n 3, 1) := dk_29 (dk_at dksX0_spotDigest_3 15 rfl rfl)
theorem dX0_spotDigest_85 : decode cX0_spotDigest 85 = .ok (.iload 6, 2) := dk_21 6 (dk_at dksX0_spotDigest_3 16 rfl rfl)
theorem dX0_spotDigest_87 : decode cX0_spotDigest 87 = .ok (.invokevirtual 309, 3) := dk_182 1 53 (dk_at dksX0_spotDigest_3 18 rfl rfl)
theorem dX0_spotDigest_90 : decode cX0_spotDigest 90 = .ok (.i2l, 1) := dk_133 (dk_at dksX0_spotDigest_3 21 rfl rfl)
theorem dX0_spotDigest_91 : decode cX0_spotDigest 91 = .ok (.ladd, 1) := dk_97 (dk_at dksX0_spotDigest_3 22 rfl rfl)
theorem dX0_spotDigest_92 : decode cX0_spotDigest 92 = .ok (.lstore 4, 2) := dk_55 4 (dk_at dksX0_spotDigest_4 0 rfl rfl)
theorem dX0_spotDigest_94 : decode cX0_spotDigest 94 = .ok (.iinc 6 1, 3) := dk_132 6 1 (dk_at dksX0_spotDigest_4 2 rfl rfl)
theorem dX0_spotDigest_97 : decode cX0_spotDigest 97 = .ok (.goto (-31), 3) := dk_167 255 225 (dk_at dksX0_spotDigest_4 5 rfl rfl)
theorem dX0_spotDigest_100 : decode cX0_spotDigest 100 = .ok (.lload 4, 2) := dk_22 4 (dk_at dksX0_spotDigest_4 8 rfl rfl)
theorem dX0_spotDigest_102 : decode cX0_spotDigest 102 = .ok (.lreturn, 1) := dk_173 (dk_at dksX0_spotDigest_4 10 rfl rfl)
abbrev cX0_starDigest : ByteArray := prog_1_method_92_code
def yX0_starDigest : MethodName := ⟨RX0, "starDigest", "(JI)J"⟩
def dkwX0_starDigest_3 : List UInt8 := [167, 255, 227, 22, 4, 173]
abbrev dktX0_starDigest_3 : List UInt8 := dkwX0_starDigest_3 ++ []
def dkwX0_starDigest_2 : List UInt8 := [20, 1, 195, 22, 4, 105, 42, 3, 3, 4, 29, 21, 6, 182, 1, 200, 133, 97, 55, 4, 132, 6, 1]
abbrev dktX0_starDigest_2 : List UInt8 := dkwX0_starDigest_2 ++ dktX0_starDigest_3
def dkwX0_starDigest_1 : List UInt8 := [182, 1, 197, 133, 97, 55, 4, 132, 6, 1, 167, 255, 230, 3, 54, 6, 21, 6, 6, 162, 0, 29]
abbrev dktX0_starDigest_1 : List UInt8 := dkwX0_starDigest_1 ++ dktX0_starDigest_2
def dkwX0_starDigest_0 : List UInt8 := [31, 55, 4, 3, 54, 6, 21, 6, 6, 162, 0, 26, 20, 1, 195, 22, 4, 105, 42, 29, 21, 6]
abbrev dktX0_starDigest_0 : List UInt8 := dkwX0_starDigest_0 ++ dktX0_starDigest_1
theorem dksX0_starDigest_0 : cX0_starDigest.data.toList.drop 0 = dktX0_starDigest_0 := by decide +kernel
theorem dksX0_starDigest_1 : cX0_starDigest.data.toList.drop 22 = dktX0_starDigest_1 := dk_seg dksX0_starDigest_0 22 rfl rfl
theorem dksX0_starDigest_2 : cX0_starDigest.data.toList.drop 44 = dktX0_starDigest_2 := dk_seg dksX0_starDigest_1 22 rfl rfl
theorem dksX0_starDigest_3 : cX0_starDigest.data.toList.drop 67 = dktX0_starDigest_3 := dk_seg dksX0_starDigest_2 23 rfl rfl
theorem dX0_starDigest_0 : decode cX0_starDigest 0 = .ok (.lload_n 1, 1) := dk_31 (dk_at dksX0_starDigest_0 0 rfl rfl)
theorem dX0_starDigest_1 : decode cX0_starDigest 1 = .ok (.lstore 4, 2) := dk_55 4 (dk_at dksX0_starDigest_0 1 rfl rfl)
theorem dX0_starDigest_3 : decode cX0_starDigest 3 = .ok (.iconst 0, 1) := dk_3 (dk_at dksX0_starDigest_0 3 rfl rfl)
theorem dX0_starDigest_4 : decode cX0_starDigest 4 = .ok (.istore 6, 2) := dk_54 6 (dk_at dksX0_starDigest_0 4 rfl rfl)
theorem dX0_starDigest_6 : decode cX0_starDigest 6 = .ok (.iload 6, 2) := dk_21 6 (dk_at dksX0_starDigest_0 6 rfl rfl)
theorem dX0_starDigest_8 : decode cX0_starDigest 8 = .ok (.iconst 3, 1) := dk_6 (dk_at dksX0_starDigest_0 8 rfl rfl)
theorem dX0_starDigest_9 : decode cX0_starDigest 9 = .ok (.if_icmp .ge 26, 3) := dk_162 0 26 (dk_at dksX0_starDigest_0 9 rfl rfl)
theorem dX0_starDigest_12 : decode cX0_starDigest 12 = .ok (.ldc2_w 451, 3) := dk_20 1 195 (dk_at dksX0_starDigest_0 12 rfl rfl)
theorem dX0_starDigest_15 : decode cX0_starDigest 15 = .ok (.lload 4, 2) := dk_22 4 (dk_at dksX0_starDigest_0 15 rfl rfl)
theorem dX0_starDigest_17 : decode cX0_starDigest 17 = .ok (.lmul, 1) := dk_105 (dk_at dksX0_starDigest_0 17 rfl rfl)
theorem dX0_starDigest_18 : decode cX0_starDigest 18 = .ok (.aload_n 0, 1) := dk_42 (dk_at dksX0_starDigest_0 18 rfl rfl)
theorem dX0_starDigest_19 : decode cX0_starDigest 19 = .ok (.iload_n 3, 1) := dk_29 (dk_at dksX0_starDigest_0 19 rfl rfl)
theorem dX0_starDigest_20 : decode cX0_starDigest 20 = .ok (.iload 6, 2) := dk_21 6 (dk_at dksX0_starDigest_0 20 rfl rfl)
theorem dX0_starDigest_22 : decode cX0_starDigest 22 = .ok (.invokevirtual 453, 3) := dk_182 1 197 (dk_at dksX0_starDigest_1 0 rfl rfl)
theorem dX0_starDigest_25 : decode cX0_starDigest 25 = .ok (.i2l, 1) := dk_133 (dk_at dksX0_starDigest_1 3 rfl rfl)
theorem dX0_starDigest_26 : decode cX0_starDigest 26 = .ok (.ladd, 1) := dk_97 (dk_at dksX0_starDigest_1 4 rfl rfl)
theorem dX0_starDigest_27 : decode cX0_starDigest 27 = .ok (.lstore 4, 2) := dk_55 4 (dk_at dksX0_starDigest_1 5 rfl rfl)
theorem dX0_starDigest_29 : decode cX0_starDigest 29 = .ok (.iinc 6 1, 3) := dk_132 6 1 (dk_at dksX0_starDigest_1 7 rfl rfl)
theorem dX0_starDigest_32 : decode cX0_starDigest 32 = .ok (.goto (-26), 3) := dk_167 255 230 (dk_at dksX0_starDigest_1 10 rfl rfl)
theorem dX0_starDigest_35 : decode cX0_starDigest 35 = .ok (.iconst 0, 1) := dk_3 (dk_at dksX0_starDigest_1 13 rfl rfl)
theorem dX0_starDigest_36 : decode cX0_starDigest 36 = .ok (.istore 6, 2) := dk_54 6 (dk_at dksX0_starDigest_1 14 rfl rfl)
theorem dX0_starDigest_38 : decode cX0_starDigest 38 = .ok (.iload 6, 2) := dk_21 6 (dk_at dksX0_starDigest_1 16 rfl rfl)
theorem dX0_starDigest_40 : decode cX0_starDigest 40 = .ok (.iconst 3, 1) := dk_6 (dk_at dksX0_starDigest_1 18 rfl rfl)
theorem dX0_starDigest_41 : decode cX0_starDigest 41 = .ok (.if_icmp .ge 29, 3) := dk_162 0 29 (dk_at dksX0_starDigest_1 19 rfl rfl)
theorem dX0_starDigest_44 : decode cX0_starDigest 44 = .ok (.ldc2_w 451, 3) := dk_20 1 195 (dk_at dksX0_starDigest_2 0 rfl rfl)
theorem dX0_starDigest_47 : decode cX0_starDigest 47 = .ok (.lload 4, 2) := dk_22 4 (dk_at dksX0_starDigest_2 3 rfl rfl)
theorem dX0_starDigest_49 : decode cX0_starDigest 49 = .ok (.lmul, 1) := dk_105 (dk_at dksX0_starDigest_2 5 rfl rfl)
theorem dX0_starDigest_50 : decode cX0_starDigest 50 = .ok (.aload_n 0, 1) := dk_42 (dk_at dksX0_starDigest_2 6 rfl rfl)
theorem dX0_starDigest_51 : decode cX0_starDigest 51 = .ok (.iconst 0, 1) := dk_3 (dk_at dksX0_starDigest_2 7 rfl rfl)
theorem dX0_starDigest_52 : decode cX0_starDigest 52 = .ok (.iconst 0, 1) := dk_3 (dk_at dksX0_starDigest_2 8 rfl rfl)
theorem dX0_starDigest_53 : decode cX0_starDigest 53 = .ok (.iconst 1, 1) := dk_4 (dk_at dksX0_starDigest_2 9 rfl rfl)
theorem dX0_starDigest_54 : decode cX0_starDigest 54 = .ok (.iload_n 3, 1) := dk_29 (dk_at dksX0_starDigest_2 10 rfl rfl)
theorem dX0_starDigest_55 : decode cX0_starDigest 55 = .ok (.iload 6, 2) := dk_21 6 (dk_at dksX0_starDigest_2 11 rfl rfl)
theorem dX0_starDigest_57 : decode cX0_starDigest 57 = .ok (.invokevirtual 456, 3) := dk_182 1 200 (dk_at dksX0_starDigest_2 13 rfl rfl)
theorem dX0_starDigest_60 : decode cX0_starDigest 60 = .ok (.i2l, 1) := dk_133 (dk_at dksX0_starDigest_2 16 rfl rfl)
theorem dX0_starDigest_61 : decode cX0_starDigest 61 = .ok (.ladd, 1) := dk_97 (dk_at dksX0_starDigest_2 17 rfl rfl)
theorem dX0_starDigest_62 : decode cX0_starDigest 62 = .ok (.lstore 4, 2) := dk_55 4 (dk_at dksX0_starDigest_2 18 rfl rfl)
theorem dX0_starDigest_64 : decode cX0_starDigest 64 = .ok (.iinc 6 1, 3) := dk_132 6 1 (dk_at dksX0_starDigest_2 20 rfl rfl)
theorem dX0_starDigest_67 : decode cX0_starDigest 67 = .ok (.goto (-29), 3) := dk_167 255 227 (dk_at dksX0_starDigest_3 0 rfl rfl)
theorem dX0_starDigest_70 : decode cX0_starDigest 70 = .ok (.lload 4, 2) := dk_22 4 (dk_at dksX0_starDigest_3 3 rfl rfl)
theorem dX0_starDigest_72 : decode cX0_starDigest 72 = .ok (.lreturn, 1) := dk_173 (dk_at dksX0_starDigest_3 5 rfl rfl)
theorem q80 : (Jvm.Cond.initialized "StarTracker") ∈ lw_all := lw_g (lw_at lw_m1 1 rfl) rfl
theorem q102 : (Jvm.Cond.instanceMethod ({ cls := "StarTracker", name := "add", desc := "(IIII)I" } : Jvm.MethodName)) ∈ lw_all := lw_g (lw_at lw_m1 23 rfl) rfl
theorem q103 : (Jvm.Cond.selects "StarTracker" ({ cls := "StarTracker", name := "add", desc := "(IIII)I" } : Jvm.MethodName) ({ cls := "StarTracker", name := "add", desc := "(IIII)I" } : Jvm.MethodName)) ∈ lw_all := lw_g (lw_at lw_m1 24 rfl) rfl
theorem q104 : (Jvm.Cond.code ({ cls := "StarTracker", name := "add", desc := "(IIII)I" } : Jvm.MethodName) prog_1_method_11_code (5 : Nat) (Option.some Jvm.ClassFile.FieldType.int)) ∈ lw_all := lw_g (lw_at lw_m1 25 rfl) rfl
theorem q105 : (Jvm.Cond.methodLink "StarTracker" (35 : Nat) ({ cls := "StarTracker", name := "isTwo", desc := "(I)Z" } : Jvm.MethodName)) ∈ lw_all := lw_g (lw_at lw_m1 26 rfl) rfl
theorem q106 : (Jvm.Cond.static ({ cls := "StarTracker", name := "isTwo", desc := "(I)Z" } : Jvm.MethodName)) ∈ lw_all := lw_g (lw_at lw_m1 27 rfl) rfl
theorem q107 : (Jvm.Cond.code ({ cls := "StarTracker", name := "isTwo", desc := "(I)Z" } : Jvm.MethodName) prog_1_method_2_code (1 : Nat) (Option.some Jvm.ClassFile.FieldType.boolean)) ∈ lw_all := lw_g (lw_at lw_m1 28 rfl) rfl
theorem q108 : (Jvm.Cond.methodLink "StarTracker" (1 : Nat) ({ cls := "StarTracker", name := "in", desc := "(III)Z" } : Jvm.MethodName)) ∈ lw_all := lw_g (lw_at lw_m1 29 rfl) rfl
theorem q109 : (Jvm.Cond.static ({ cls := "StarTracker", name := "in", desc := "(III)Z" } : Jvm.MethodName)) ∈ lw_all := lw_g (lw_at lw_m1 30 rfl) rfl
theorem q110 : (Jvm.Cond.code ({ cls := "StarTracker", name := "in", desc := "(III)Z" } : Jvm.MethodName) prog_1_method_1_code (3 : Nat) (Option.some Jvm.ClassFile.FieldType.boolean)) ∈ lw_all := lw_g (lw_at lw_m1 31 rfl) rfl
theorem q111 : (Jvm.Cond.methodLink "StarTracker" (39 : Nat) ({ cls := "StarTracker", name := "adds", desc := "(IIII)I" } : Jvm.MethodName)) ∈ lw_all := lw_g (lw_at lw_m1 32 rfl) rfl
theorem q112 : (Jvm.Cond.privateMethod ({ cls := "StarTracker", name := "adds", desc := "(IIII)I" } : Jvm.MethodName)) ∈ lw_tbl := lw_at lw_m1 33 rfl
theorem q113 : (Jvm.Cond.instanceMethod ({ cls := "StarTracker", name := "adds", desc := "(IIII)I" } : Jvm.MethodName)) ∈ lw_all := lw_g (lw_at lw_m1 34 rfl) rfl
theorem q114 : (Jvm.Cond.instantiable "StarTracker" (32 : Nat)) ∈ lw_all := lw_g (lw_at lw_m1 35 rfl) rfl
theorem q115 : (Jvm.Cond.code ({ cls := "StarTracker", name := "adds", desc := "(IIII)I" } : Jvm.MethodName) prog_1_method_10_code (5 : Nat) (Option.some Jvm.ClassFile.FieldType.int)) ∈ lw_all := lw_g (lw_at lw_m1 36 rfl) rfl
theorem q116 : (Jvm.Cond.methodLink "StarTracker" (28 : Nat) ({ cls := "StarTracker", name := "isDirection", desc := "(III)Z" } : Jvm.MethodName)) ∈ lw_all := lw_g (lw_at lw_m1 37 rfl) rfl
theorem q117 : (Jvm.Cond.static ({ cls := "StarTracker", name := "isDirection", desc := "(III)Z" } : Jvm.MethodName)) ∈ lw_all := lw_g (lw_at lw_m1 38 rfl) rfl
theorem q118 : (Jvm.Cond.code ({ cls := "StarTracker", name := "isDirection", desc := "(III)Z" } : Jvm.MethodName) prog_1_method_8_code (4 : Nat) (Option.some Jvm.ClassFile.FieldType.boolean)) ∈ lw_all := lw_g (lw_at lw_m1 39 rfl) rfl
theorem q119 : (Jvm.Cond.methodLink "StarTracker" (31 : Nat) ({ cls := "StarTracker", name := "keeps", desc := "(IIII)V" } : Jvm.MethodName)) ∈ lw_all := lw_g (lw_at lw_m1 40 rfl) rfl
theorem q120 : (Jvm.Cond.privateMethod ({ cls := "StarTracker", name := "keeps", desc := "(IIII)V" } : Jvm.MethodName)) ∈ lw_tbl := lw_at lw_m1 41 rfl
theorem q121 : (Jvm.Cond.instanceMethod ({ cls := "StarTracker", name := "keeps", desc := "(IIII)V" } : Jvm.MethodName)) ∈ lw_all := lw_g (lw_at lw_m1 42 rfl) rfl
theorem q122 : (Jvm.Cond.code ({ cls := "StarTracker", name := "keeps", desc := "(IIII)V" } : Jvm.MethodName) prog_1_method_9_code (5 : Nat) (Option.none : Option Jvm.ClassFile.FieldType)) ∈ lw_all := lw_g (lw_at lw_m1 43 rfl) rfl
theorem q123 : (Jvm.Cond.classLink "StarTracker" (15 : Nat) "StarTracker$Star") ∈ lw_all := lw_g (lw_at lw_m1 44 rfl) rfl
theorem q125 : (Jvm.Cond.methodLink "StarTracker" (17 : Nat) ({ cls := "StarTracker$Star", name := "<init>", desc := "(III)V" } : Jvm.MethodName)) ∈ lw_all := lw_g (lw_at lw_m1 46 rfl) rfl
theorem q144 : (Jvm.Cond.classLink "StarTracker" (21 : Nat) "StarTracker$Spot") ∈ lw_all := lw_g (lw_at lw_m1 65 rfl) rfl
theorem q146 : (Jvm.Cond.methodLink "StarTracker" (23 : Nat) ({ cls := "StarTracker$Spot", name := "<init>", desc := "(III)V" } : Jvm.MethodName)) ∈ lw_all := lw_g (lw_at lw_m1 67 rfl) rfl
theorem q155 : (Jvm.Cond.instanceMethod ({ cls := "StarTracker", name := "back", desc := "(I)I" } : Jvm.MethodName)) ∈ lw_all := lw_g (lw_at lw_m1 76 rfl) rfl
theorem q156 : (Jvm.Cond.selects "StarTracker" ({ cls := "StarTracker", name := "back", desc := "(I)I" } : Jvm.MethodName) ({ cls := "StarTracker", name := "back", desc := "(I)I" } : Jvm.MethodName)) ∈ lw_all := lw_g (lw_at lw_m1 77 rfl) rfl
theorem q157 : (Jvm.Cond.code ({ cls := "StarTracker", name := "back", desc := "(I)I" } : Jvm.MethodName) prog_1_method_12_code (2 : Nat) (Option.some Jvm.ClassFile.FieldType.int)) ∈ lw_all := lw_g (lw_at lw_m1 78 rfl) rfl
theorem q159 : (Jvm.Cond.instanceMethod ({ cls := "StarTracker", name := "at", desc := "(III)I" } : Jvm.MethodName)) ∈ lw_all := lw_g (lw_at lw_m1 80 rfl) rfl
theorem q160 : (Jvm.Cond.selects "StarTracker" ({ cls := "StarTracker", name := "at", desc := "(III)I" } : Jvm.MethodName) ({ cls := "StarTracker", name := "at", desc := "(III)I" } : Jvm.MethodName)) ∈ lw_all := lw_g (lw_at lw_m1 81 rfl) rfl
theorem q161 : (Jvm.Cond.code ({ cls := "StarTracker", name := "at", desc := "(III)I" } : Jvm.MethodName) prog_1_method_14_code (4 : Nat) (Option.some Jvm.ClassFile.FieldType.int)) ∈ lw_all := lw_g (lw_at lw_m1 82 rfl) rfl
theorem q162 : (Jvm.Cond.methodLink "StarTracker" (43 : Nat) ({ cls := "StarTracker", name := "isBody", desc := "(II)Z" } : Jvm.MethodName)) ∈ lw_all := lw_g (lw_at lw_m1 83 rfl) rfl
theorem q163 : (Jvm.Cond.privateMethod ({ cls := "StarTracker", name := "isBody", desc := "(II)Z" } : Jvm.MethodName)) ∈ lw_tbl := lw_at lw_m1 84 rfl
theorem q164 : (Jvm.Cond.instanceMethod ({ cls := "StarTracker", name := "isBody", desc := "(II)Z" } : Jvm.MethodName)) ∈ lw_all := lw_g (lw_at lw_m1 85 rfl) rfl
theorem q165 : (Jvm.Cond.code ({ cls := "StarTracker", name := "isBody", desc := "(II)Z" } : Jvm.MethodName) prog_1_method_13_code (3 : Nat) (Option.some Jvm.ClassFile.FieldType.boolean)) ∈ lw_all := lw_g (lw_at lw_m1 86 rfl) rfl
theorem q166 : (Jvm.Cond.methodLink "StarTracker" (47 : Nat) ({ cls := "StarTracker", name := "isThree", desc := "(I)Z" } : Jvm.MethodName)) ∈ lw_all := lw_g (lw_at lw_m1 87 rfl) rfl
theorem q167 : (Jvm.Cond.static ({ cls := "StarTracker", name := "isThree", desc := "(I)Z" } : Jvm.MethodName)) ∈ lw_all := lw_g (lw_at lw_m1 88 rfl) rfl
theorem q168 : (Jvm.Cond.code ({ cls := "StarTracker", name := "isThree", desc := "(I)Z" } : Jvm.MethodName) prog_1_method_3_code (1 : Nat) (Option.some Jvm.ClassFile.FieldType.boolean)) ∈ lw_all := lw_g (lw_at lw_m1 89 rfl) rfl
theorem q169 : (Jvm.Cond.methodLink "StarTracker" (50 : Nat) ({ cls := "StarTracker$Body", name := "along", desc := "(I)I" } : Jvm.MethodName)) ∈ lw_all := lw_g (lw_at lw_m1 90 rfl) rfl
theorem q175 : (Jvm.Cond.constant "StarTracker" (56 : Nat) (-2147483648 : Int32)) ∈ lw_all := lw_g (lw_at lw_m1 96 rfl) rfl
theorem q177 : (Jvm.Cond.instanceMethod ({ cls := "StarTracker", name := "read", desc := "(II)I" } : Jvm.MethodName)) ∈ lw_all := lw_g (lw_at lw_m1 98 rfl) rfl
theorem q178 : (Jvm.Cond.selects "StarTracker" ({ cls := "StarTracker", name := "read", desc := "(II)I" } : Jvm.MethodName) ({ cls := "StarTracker", name := "read", desc := "(II)I" } : Jvm.MethodName)) ∈ lw_all := lw_g (lw_at lw_m1 99 rfl) rfl
theorem q179 : (Jvm.Cond.code ({ cls := "StarTracker", name := "read", desc := "(II)I" } : Jvm.MethodName) prog_1_method_15_code (5 : Nat) (Option.some Jvm.ClassFile.FieldType.int)) ∈ lw_all := lw_g (lw_at lw_m1 100 rfl) rfl
theorem q180 : (Jvm.Cond.methodLink "StarTracker" (57 : Nat) ({ cls := "StarTracker", name := "isSheet", desc := "(I)Z" } : Jvm.MethodName)) ∈ lw_all := lw_g (lw_at lw_m1 101 rfl) rfl
theorem q181 : (Jvm.Cond.static ({ cls := "StarTracker", name := "isSheet", desc := "(I)Z" } : Jvm.MethodName)) ∈ lw_all := lw_g (lw_at lw_m1 102 rfl) rfl
theorem q182 : (Jvm.Cond.code ({ cls := "StarTracker", name := "isSheet", desc := "(I)Z" } : Jvm.MethodName) prog_1_method_75_code (1 : Nat) (Option.some Jvm.ClassFile.FieldType.boolean)) ∈ lw_all := lw_g (lw_at lw_m1 103 rfl) rfl
theorem q183 : (Jvm.Cond.methodLink "StarTracker" (70 : Nat) ({ cls := "StarTracker", name := "refuses", desc := "(I)I" } : Jvm.MethodName)) ∈ lw_all := lw_g (lw_at lw_m1 104 rfl) rfl
theorem q184 : (Jvm.Cond.privateMethod ({ cls := "StarTracker", name := "refuses", desc := "(I)I" } : Jvm.MethodName)) ∈ lw_tbl := lw_at lw_m1 105 rfl
theorem q185 : (Jvm.Cond.instanceMethod ({ cls := "StarTracker", name := "refuses", desc := "(I)I" } : Jvm.MethodName)) ∈ lw_all := lw_g (lw_at lw_m1 106 rfl) rfl
theorem q186 : (Jvm.Cond.code ({ cls := "StarTracker", name := "refuses", desc := "(I)I" } : Jvm.MethodName) prog_1_method_74_code (2 : Nat) (Option.some Jvm.ClassFile.FieldType.int)) ∈ lw_all := lw_g (lw_at lw_m1 107 rfl) rfl
theorem q187 : (Jvm.Cond.methodLink "StarTracker" (73 : Nat) ({ cls := "StarTracker$Sheet", name := "size", desc := "()I" } : Jvm.MethodName)) ∈ lw_all := lw_g (lw_at lw_m1 108 rfl) rfl
theorem q194 : (Jvm.Cond.methodLink "StarTracker" (77 : Nat) ({ cls := "StarTracker$Sheet", name := "item", desc := "(I)I" } : Jvm.MethodName)) ∈ lw_all := lw_g (lw_at lw_m1 115 rfl) rfl
theorem q199 : (Jvm.Cond.static ({ cls := "StarTracker", name := "taken", desc := "(Ljava/lang/Object;II)I" } : Jvm.MethodName)) ∈ lw_all := lw_g (lw_at lw_m1 120 rfl) rfl
theorem q200 : (Jvm.Cond.code ({ cls := "StarTracker", name := "taken", desc := "(Ljava/lang/Object;II)I" } : Jvm.MethodName) prog_1_method_80_code (3 : Nat) (Option.some Jvm.ClassFile.FieldType.int)) ∈ lw_all := lw_g (lw_at lw_m1 121 rfl) rfl
theorem q201 : (Jvm.Cond.classLink "StarTracker" (409 : Nat) "[B") ∈ lw_all := lw_g (lw_at lw_m1 122 rfl) rfl
theorem q202 : (Jvm.Cond.classLink "StarTracker" (411 : Nat) "[S") ∈ lw_all := lw_g (lw_at lw_m1 123 rfl) rfl
theorem q203 : (Jvm.Cond.classLink "StarTracker" (413 : Nat) "[I") ∈ lw_all := lw_g (lw_at lw_m1 124 rfl) rfl
theorem q205 : (Jvm.Cond.instanceMethod ({ cls := "StarTracker", name := "see", desc := "(IIIIII)I" } : Jvm.MethodName)) ∈ lw_all := lw_g (lw_at lw_m1 126 rfl) rfl
theorem q206 : (Jvm.Cond.selects "StarTracker" ({ cls := "StarTracker", name := "see", desc := "(IIIIII)I" } : Jvm.MethodName) ({ cls := "StarTracker", name := "see", desc := "(IIIIII)I" } : Jvm.MethodName)) ∈ lw_all := lw_g (lw_at lw_m1 127 rfl) rfl
theorem q207 : (Jvm.Cond.code ({ cls := "StarTracker", name := "see", desc := "(IIIIII)I" } : Jvm.MethodName) prog_1_method_19_code (8 : Nat) (Option.some Jvm.ClassFile.FieldType.int)) ∈ lw_all := lw_g (lw_at lw_m1 128 rfl) rfl
theorem q208 : (Jvm.Cond.methodLink "StarTracker" (91 : Nat) ({ cls := "java/lang/Math", name := "min", desc := "(II)I" } : Jvm.MethodName)) ∈ lw_all := lw_g (lw_at lw_m1 129 rfl) rfl
theorem q211 : (Jvm.Cond.methodLink "StarTracker" (120 : Nat) ({ cls := "StarTracker", name := "isFour", desc := "(I)Z" } : Jvm.MethodName)) ∈ lw_all := lw_g (lw_at lw_m1 132 rfl) rfl
theorem q212 : (Jvm.Cond.static ({ cls := "StarTracker", name := "isFour", desc := "(I)Z" } : Jvm.MethodName)) ∈ lw_all := lw_g (lw_at lw_m1 133 rfl) rfl
theorem q213 : (Jvm.Cond.code ({ cls := "StarTracker", name := "isFour", desc := "(I)Z" } : Jvm.MethodName) prog_1_method_4_code (1 : Nat) (Option.some Jvm.ClassFile.FieldType.boolean)) ∈ lw_all := lw_g (lw_at lw_m1 134 rfl) rfl
theorem q214 : (Jvm.Cond.methodLink "StarTracker" (123 : Nat) ({ cls := "StarTracker", name := "sees", desc := "(I[III)I" } : Jvm.MethodName)) ∈ lw_all := lw_g (lw_at lw_m1 135 rfl) rfl
theorem q215 : (Jvm.Cond.privateMethod ({ cls := "StarTracker", name := "sees", desc := "(I[III)I" } : Jvm.MethodName)) ∈ lw_tbl := lw_at lw_m1 136 rfl
theorem q216 : (Jvm.Cond.instanceMethod ({ cls := "StarTracker", name := "sees", desc := "(I[III)I" } : Jvm.MethodName)) ∈ lw_all := lw_g (lw_at lw_m1 137 rfl) rfl
theorem q217 : (Jvm.Cond.code ({ cls := "StarTracker", name := "sees", desc := "(I[III)I" } : Jvm.MethodName) prog_1_method_18_code (8 : Nat) (Option.some Jvm.ClassFile.FieldType.int)) ∈ lw_all := lw_g (lw_at lw_m1 138 rfl) rfl
theorem q218 : (Jvm.Cond.interfaceEntry "StarTracker" (110 : Nat)) ∈ lw_tbl := lw_at lw_m1 139 rfl
theorem q219 : (Jvm.Cond.methodLink "StarTracker" (110 : Nat) ({ cls := "StarTracker$Quarter", name := "turns", desc := "([I)V" } : Jvm.MethodName)) ∈ lw_all := lw_g (lw_at lw_m1 140 rfl) rfl
theorem q222 : (Jvm.Cond.methodLink "StarTracker" (116 : Nat) ({ cls := "StarTracker", name := "noises", desc := "(I)V" } : Jvm.MethodName)) ∈ lw_all := lw_g (lw_at lw_m1 143 rfl) rfl
theorem q223 : (Jvm.Cond.privateMethod ({ cls := "StarTracker", name := "noises", desc := "(I)V" } : Jvm.MethodName)) ∈ lw_tbl := lw_at lw_m1 144 rfl
theorem q224 : (Jvm.Cond.instanceMethod ({ cls := "StarTracker", name := "noises", desc := "(I)V" } : Jvm.MethodName)) ∈ lw_all := lw_g (lw_at lw_m1 145 rfl) rfl
theorem q225 : (Jvm.Cond.code ({ cls := "StarTracker", name := "noises", desc := "(I)V" } : Jvm.MethodName) prog_1_method_17_code (4 : Nat) (Option.none : Option Jvm.ClassFile.FieldType)) ∈ lw_all := lw_g (lw_at lw_m1 146 rfl) rfl
theorem q226 : (Jvm.Cond.methodLink "StarTracker" (88 : Nat) ({ cls := "StarTracker", name := "lot", desc := "(I)I" } : Jvm.MethodName)) ∈ lw_all := lw_g (lw_at lw_m1 147 rfl) rfl
theorem q227 : (Jvm.Cond.privateMethod ({ cls := "StarTracker", name := "lot", desc := "(I)I" } : Jvm.MethodName)) ∈ lw_tbl := lw_at lw_m1 148 rfl
theorem q228 : (Jvm.Cond.instanceMethod ({ cls := "StarTracker", name := "lot", desc := "(I)I" } : Jvm.MethodName)) ∈ lw_all := lw_g (lw_at lw_m1 149 rfl) rfl
theorem q229 : (Jvm.Cond.code ({ cls := "StarTracker", name := "lot", desc := "(I)I" } : Jvm.MethodName) prog_1_method_16_code (2 : Nat) (Option.some Jvm.ClassFile.FieldType.int)) ∈ lw_all := lw_g (lw_at lw_m1 150 rfl) rfl
theorem q230 : (Jvm.Cond.constant "StarTracker" (80 : Nat) (1103515245 : Int32)) ∈ lw_all := lw_g (lw_at lw_m1 151 rfl) rfl
theorem q231 : (Jvm.Cond.methodLink "StarTracker" (97 : Nat) ({ cls := "java/lang/Math", name := "max", desc := "(II)I" } : Jvm.MethodName)) ∈ lw_all := lw_g (lw_at lw_m1 152 rfl) rfl
theorem q236 : (Jvm.Cond.instanceMethod ({ cls := "StarTracker", name := "set", desc := "(II)I" } : Jvm.MethodName)) ∈ lw_all := lw_g (lw_at lw_m1 157 rfl) rfl
theorem q237 : (Jvm.Cond.selects "StarTracker" ({ cls := "StarTracker", name := "set", desc := "(II)I" } : Jvm.MethodName) ({ cls := "StarTracker", name := "set", desc := "(II)I" } : Jvm.MethodName)) ∈ lw_all := lw_g (lw_at lw_m1 158 rfl) rfl
theorem q238 : (Jvm.Cond.code ({ cls := "StarTracker", name := "set", desc := "(II)I" } : Jvm.MethodName) prog_1_method_21_code (4 : Nat) (Option.some Jvm.ClassFile.FieldType.int)) ∈ lw_all := lw_g (lw_at lw_m1 159 rfl) rfl
theorem q239 : (Jvm.Cond.methodLink "StarTracker" (127 : Nat) ({ cls := "StarTracker", name := "isSetting", desc := "(II)Z" } : Jvm.MethodName)) ∈ lw_all := lw_g (lw_at lw_m1 160 rfl) rfl
theorem q240 : (Jvm.Cond.static ({ cls := "StarTracker", name := "isSetting", desc := "(II)Z" } : Jvm.MethodName)) ∈ lw_all := lw_g (lw_at lw_m1 161 rfl) rfl
theorem q241 : (Jvm.Cond.code ({ cls := "StarTracker", name := "isSetting", desc := "(II)Z" } : Jvm.MethodName) prog_1_method_20_code (2 : Nat) (Option.some Jvm.ClassFile.FieldType.boolean)) ∈ lw_all := lw_g (lw_at lw_m1 162 rfl) rfl
theorem q243 : (Jvm.Cond.instanceMethod ({ cls := "StarTracker", name := "side", desc := "(III)I" } : Jvm.MethodName)) ∈ lw_all := lw_g (lw_at lw_m1 164 rfl) rfl
theorem q244 : (Jvm.Cond.selects "StarTracker" ({ cls := "StarTracker", name := "side", desc := "(III)I" } : Jvm.MethodName) ({ cls := "StarTracker", name := "side", desc := "(III)I" } : Jvm.MethodName)) ∈ lw_all := lw_g (lw_at lw_m1 165 rfl) rfl
theorem q245 : (Jvm.Cond.code ({ cls := "StarTracker", name := "side", desc := "(III)I" } : Jvm.MethodName) prog_1_method_22_code (4 : Nat) (Option.some Jvm.ClassFile.FieldType.int)) ∈ lw_all := lw_g (lw_at lw_m1 166 rfl) rfl
theorem q246 : (Jvm.Cond.methodLink "StarTracker" (133 : Nat) ({ cls := "StarTracker$Body", name := "side", desc := "(LStarTracker$Body;)I" } : Jvm.MethodName)) ∈ lw_all := lw_g (lw_at lw_m1 167 rfl) rfl
theorem q253 : (Jvm.Cond.instanceMethod ({ cls := "StarTracker", name := "key", desc := "(IIIII)I" } : Jvm.MethodName)) ∈ lw_all := lw_g (lw_at lw_m1 174 rfl) rfl
theorem q254 : (Jvm.Cond.selects "StarTracker" ({ cls := "StarTracker", name := "key", desc := "(IIIII)I" } : Jvm.MethodName) ({ cls := "StarTracker", name := "key", desc := "(IIIII)I" } : Jvm.MethodName)) ∈ lw_all := lw_g (lw_at lw_m1 175 rfl) rfl
theorem q255 : (Jvm.Cond.code ({ cls := "StarTracker", name := "key", desc := "(IIIII)I" } : Jvm.MethodName) prog_1_method_25_code (7 : Nat) (Option.some Jvm.ClassFile.FieldType.int)) ∈ lw_all := lw_g (lw_at lw_m1 176 rfl) rfl
theorem q256 : (Jvm.Cond.methodLink "StarTracker" (147 : Nat) ({ cls := "StarTracker", name := "keyOf", desc := "(IIIII)I" } : Jvm.MethodName)) ∈ lw_all := lw_g (lw_at lw_m1 177 rfl) rfl
theorem q257 : (Jvm.Cond.privateMethod ({ cls := "StarTracker", name := "keyOf", desc := "(IIIII)I" } : Jvm.MethodName)) ∈ lw_tbl := lw_at lw_m1 178 rfl
theorem q258 : (Jvm.Cond.instanceMethod ({ cls := "StarTracker", name := "keyOf", desc := "(IIIII)I" } : Jvm.MethodName)) ∈ lw_all := lw_g (lw_at lw_m1 179 rfl) rfl
theorem q259 : (Jvm.Cond.code ({ cls := "StarTracker", name := "keyOf", desc := "(IIIII)I" } : Jvm.MethodName) prog_1_method_24_code (6 : Nat) (Option.some Jvm.ClassFile.FieldType.int)) ∈ lw_all := lw_g (lw_at lw_m1 180 rfl) rfl
theorem q260 : (Jvm.Cond.methodLink "StarTracker" (143 : Nat) ({ cls := "StarTracker", name := "findsKey", desc := "(IIII[I)V" } : Jvm.MethodName)) ∈ lw_all := lw_g (lw_at lw_m1 181 rfl) rfl
theorem q261 : (Jvm.Cond.privateMethod ({ cls := "StarTracker", name := "findsKey", desc := "(IIII[I)V" } : Jvm.MethodName)) ∈ lw_tbl := lw_at lw_m1 182 rfl
theorem q262 : (Jvm.Cond.instanceMethod ({ cls := "StarTracker", name := "findsKey", desc := "(IIII[I)V" } : Jvm.MethodName)) ∈ lw_all := lw_g (lw_at lw_m1 183 rfl) rfl
theorem q263 : (Jvm.Cond.code ({ cls := "StarTracker", name := "findsKey", desc := "(IIII[I)V" } : Jvm.MethodName) prog_1_method_23_code (11 : Nat) (Option.none : Option Jvm.ClassFile.FieldType)) ∈ lw_all := lw_g (lw_at lw_m1 184 rfl) rfl
theorem q264 : (Jvm.Cond.methodLink "StarTracker" (137 : Nat) ({ cls := "StarTracker", name := "side", desc := "(III)I" } : Jvm.MethodName)) ∈ lw_all := lw_g (lw_at lw_m1 185 rfl) rfl
theorem q266 : (Jvm.Cond.instanceMethod ({ cls := "StarTracker", name := "looks", desc := "(I)I" } : Jvm.MethodName)) ∈ lw_all := lw_g (lw_at lw_m1 187 rfl) rfl
theorem q267 : (Jvm.Cond.selects "StarTracker" ({ cls := "StarTracker", name := "looks", desc := "(I)I" } : Jvm.MethodName) ({ cls := "StarTracker", name := "looks", desc := "(I)I" } : Jvm.MethodName)) ∈ lw_all := lw_g (lw_at lw_m1 188 rfl) rfl
theorem q268 : (Jvm.Cond.code ({ cls := "StarTracker", name := "looks", desc := "(I)I" } : Jvm.MethodName) prog_1_method_46_code (2 : Nat) (Option.some Jvm.ClassFile.FieldType.int)) ∈ lw_all := lw_g (lw_at lw_m1 189 rfl) rfl
theorem q269 : (Jvm.Cond.methodLink "StarTracker" (306 : Nat) ({ cls := "StarTracker", name := "looksOf", desc := "(I)I" } : Jvm.MethodName)) ∈ lw_all := lw_g (lw_at lw_m1 190 rfl) rfl
theorem q270 : (Jvm.Cond.privateMethod ({ cls := "StarTracker", name := "looksOf", desc := "(I)I" } : Jvm.MethodName)) ∈ lw_tbl := lw_at lw_m1 191 rfl
theorem q271 : (Jvm.Cond.instanceMethod ({ cls := "StarTracker", name := "looksOf", desc := "(I)I" } : Jvm.MethodName)) ∈ lw_all := lw_g (lw_at lw_m1 192 rfl) rfl
theorem q272 : (Jvm.Cond.code ({ cls := "StarTracker", name := "looksOf", desc := "(I)I" } : Jvm.MethodName) prog_1_method_45_code (2 : Nat) (Option.some Jvm.ClassFile.FieldType.int)) ∈ lw_all := lw_g (lw_at lw_m1 193 rfl) rfl
theorem q273 : (Jvm.Cond.methodLink "StarTracker" (300 : Nat) ({ cls := "StarTracker", name := "solves", desc := "()V" } : Jvm.MethodName)) ∈ lw_all := lw_g (lw_at lw_m1 194 rfl) rfl
theorem q274 : (Jvm.Cond.privateMethod ({ cls := "StarTracker", name := "solves", desc := "()V" } : Jvm.MethodName)) ∈ lw_tbl := lw_at lw_m1 195 rfl
theorem q275 : (Jvm.Cond.instanceMethod ({ cls := "StarTracker", name := "solves", desc := "()V" } : Jvm.MethodName)) ∈ lw_all := lw_g (lw_at lw_m1 196 rfl) rfl
theorem q276 : (Jvm.Cond.code ({ cls := "StarTracker", name := "solves", desc := "()V" } : Jvm.MethodName) prog_1_method_43_code (1 : Nat) (Option.none : Option Jvm.ClassFile.FieldType)) ∈ lw_all := lw_g (lw_at lw_m1 197 rfl) rfl
theorem q277 : (Jvm.Cond.methodLink "StarTracker" (297 : Nat) ({ cls := "StarTracker", name := "solvesBy", desc := "(I)V" } : Jvm.MethodName)) ∈ lw_all := lw_g (lw_at lw_m1 198 rfl) rfl
theorem q278 : (Jvm.Cond.privateMethod ({ cls := "StarTracker", name := "solvesBy", desc := "(I)V" } : Jvm.MethodName)) ∈ lw_tbl := lw_at lw_m1 199 rfl
theorem q279 : (Jvm.Cond.instanceMethod ({ cls := "StarTracker", name := "solvesBy", desc := "(I)V" } : Jvm.MethodName)) ∈ lw_all := lw_g (lw_at lw_m1 200 rfl) rfl
theorem q280 : (Jvm.Cond.code ({ cls := "StarTracker", name := "solvesBy", desc := "(I)V" } : Jvm.MethodName) prog_1_method_42_code (3 : Nat) (Option.none : Option Jvm.ClassFile.FieldType)) ∈ lw_all := lw_g (lw_at lw_m1 201 rfl) rfl
theorem q281 : (Jvm.Cond.methodLink "StarTracker" (280 : Nat) ({ cls := "StarTracker", name := "votesBy", desc := "(I)V" } : Jvm.MethodName)) ∈ lw_all := lw_g (lw_at lw_m1 202 rfl) rfl
theorem q282 : (Jvm.Cond.privateMethod ({ cls := "StarTracker", name := "votesBy", desc := "(I)V" } : Jvm.MethodName)) ∈ lw_tbl := lw_at lw_m1 203 rfl
theorem q283 : (Jvm.Cond.instanceMethod ({ cls := "StarTracker", name := "votesBy", desc := "(I)V" } : Jvm.MethodName)) ∈ lw_all := lw_g (lw_at lw_m1 204 rfl) rfl
theorem q284 : (Jvm.Cond.code ({ cls := "StarTracker", name := "votesBy", desc := "(I)V" } : Jvm.MethodName) prog_1_method_30_code (6 : Nat) (Option.none : Option Jvm.ClassFile.FieldType)) ∈ lw_all := lw_g (lw_at lw_m1 205 rfl) rfl
theorem q285 : (Jvm.Cond.static ({ cls := "StarTracker", name := "lambda$votesBy$2", desc := "(III)Z" } : Jvm.MethodName)) ∈ lw_all := lw_g (lw_at lw_m1 206 rfl) rfl
theorem q286 : (Jvm.Cond.code ({ cls := "StarTracker", name := "lambda$votesBy$2", desc := "(III)Z" } : Jvm.MethodName) prog_1_method_94_code (3 : Nat) (Option.some Jvm.ClassFile.FieldType.boolean)) ∈ lw_all := lw_g (lw_at lw_m1 207 rfl) rfl
theorem q287 : (Jvm.Cond.methodLink "StarTracker" (268 : Nat) ({ cls := "java/lang/Math", name := "abs", desc := "(I)I" } : Jvm.MethodName)) ∈ lw_all := lw_g (lw_at lw_m1 208 rfl) rfl
theorem q290 : (Jvm.Cond.methodLink "StarTracker" (194 : Nat) ({ cls := "StarTracker", name := "holdsAgainst", desc := "(LStarTracker$Fit;)V" } : Jvm.MethodName)) ∈ lw_all := lw_g (lw_at lw_m1 211 rfl) rfl
theorem q291 : (Jvm.Cond.privateMethod ({ cls := "StarTracker", name := "holdsAgainst", desc := "(LStarTracker$Fit;)V" } : Jvm.MethodName)) ∈ lw_tbl := lw_at lw_m1 212 rfl
theorem q292 : (Jvm.Cond.instanceMethod ({ cls := "StarTracker", name := "holdsAgainst", desc := "(LStarTracker$Fit;)V" } : Jvm.MethodName)) ∈ lw_all := lw_g (lw_at lw_m1 213 rfl) rfl
theorem q293 : (Jvm.Cond.code ({ cls := "StarTracker", name := "holdsAgainst", desc := "(LStarTracker$Fit;)V" } : Jvm.MethodName) prog_1_method_29_code (5 : Nat) (Option.none : Option Jvm.ClassFile.FieldType)) ∈ lw_all := lw_g (lw_at lw_m1 214 rfl) rfl
theorem q294 : (Jvm.Cond.methodLink "StarTracker" (180 : Nat) ({ cls := "StarTracker", name := "areAll", desc := "(LStarTracker$Fit;[I[I)Z" } : Jvm.MethodName)) ∈ lw_all := lw_g (lw_at lw_m1 215 rfl) rfl
theorem q295 : (Jvm.Cond.static ({ cls := "StarTracker", name := "areAll", desc := "(LStarTracker$Fit;[I[I)Z" } : Jvm.MethodName)) ∈ lw_all := lw_g (lw_at lw_m1 216 rfl) rfl
theorem q296 : (Jvm.Cond.code ({ cls := "StarTracker", name := "areAll", desc := "(LStarTracker$Fit;[I[I)Z" } : Jvm.MethodName) prog_1_method_26_code (3 : Nat) (Option.some Jvm.ClassFile.FieldType.boolean)) ∈ lw_all := lw_g (lw_at lw_m1 217 rfl) rfl
theorem q297 : (Jvm.Cond.interfaceEntry "StarTracker" (151 : Nat)) ∈ lw_tbl := lw_at lw_m1 218 rfl
theorem q298 : (Jvm.Cond.methodLink "StarTracker" (151 : Nat) ({ cls := "StarTracker$Fit", name := "fits", desc := "(II)Z" } : Jvm.MethodName)) ∈ lw_all := lw_g (lw_at lw_m1 219 rfl) rfl
theorem q301 : (Jvm.Cond.methodLink "StarTracker" (184 : Nat) ({ cls := "StarTracker", name := "looksAt", desc := "(LStarTracker$Fit;III)V" } : Jvm.MethodName)) ∈ lw_all := lw_g (lw_at lw_m1 222 rfl) rfl
theorem q302 : (Jvm.Cond.privateMethod ({ cls := "StarTracker", name := "looksAt", desc := "(LStarTracker$Fit;III)V" } : Jvm.MethodName)) ∈ lw_tbl := lw_at lw_m1 223 rfl
theorem q303 : (Jvm.Cond.instanceMethod ({ cls := "StarTracker", name := "looksAt", desc := "(LStarTracker$Fit;III)V" } : Jvm.MethodName)) ∈ lw_all := lw_g (lw_at lw_m1 224 rfl) rfl
theorem q304 : (Jvm.Cond.code ({ cls := "StarTracker", name := "looksAt", desc := "(LStarTracker$Fit;III)V" } : Jvm.MethodName) prog_1_method_28_code (5 : Nat) (Option.none : Option Jvm.ClassFile.FieldType)) ∈ lw_all := lw_g (lw_at lw_m1 225 rfl) rfl
theorem q305 : (Jvm.Cond.methodLink "StarTracker" (169 : Nat) ({ cls := "StarTracker", name := "tries", desc := "(LStarTracker$Fit;[IIII)V" } : Jvm.MethodName)) ∈ lw_all := lw_g (lw_at lw_m1 226 rfl) rfl
theorem q306 : (Jvm.Cond.privateMethod ({ cls := "StarTracker", name := "tries", desc := "(LStarTracker$Fit;[IIII)V" } : Jvm.MethodName)) ∈ lw_tbl := lw_at lw_m1 227 rfl
theorem q307 : (Jvm.Cond.instanceMethod ({ cls := "StarTracker", name := "tries", desc := "(LStarTracker$Fit;[IIII)V" } : Jvm.MethodName)) ∈ lw_all := lw_g (lw_at lw_m1 228 rfl) rfl
theorem q308 : (Jvm.Cond.code ({ cls := "StarTracker", name := "tries", desc := "(LStarTracker$Fit;[IIII)V" } : Jvm.MethodName) prog_1_method_27_code (7 : Nat) (Option.none : Option Jvm.ClassFile.FieldType)) ∈ lw_all := lw_g (lw_at lw_m1 229 rfl) rfl
theorem q309 : (Jvm.Cond.methodLink "StarTracker" (283 : Nat) ({ cls := "StarTracker", name := "takes", desc := "()V" } : Jvm.MethodName)) ∈ lw_all := lw_g (lw_at lw_m1 230 rfl) rfl
theorem q310 : (Jvm.Cond.privateMethod ({ cls := "StarTracker", name := "takes", desc := "()V" } : Jvm.MethodName)) ∈ lw_tbl := lw_at lw_m1 231 rfl
theorem q311 : (Jvm.Cond.instanceMethod ({ cls := "StarTracker", name := "takes", desc := "()V" } : Jvm.MethodName)) ∈ lw_all := lw_g (lw_at lw_m1 232 rfl) rfl
theorem q312 : (Jvm.Cond.code ({ cls := "StarTracker", name := "takes", desc := "()V" } : Jvm.MethodName) prog_1_method_33_code (2 : Nat) (Option.none : Option Jvm.ClassFile.FieldType)) ∈ lw_all := lw_g (lw_at lw_m1 233 rfl) rfl
theorem q313 : (Jvm.Cond.methodLink "StarTracker" (213 : Nat) ({ cls := "StarTracker", name := "takesOne", desc := "()Z" } : Jvm.MethodName)) ∈ lw_all := lw_g (lw_at lw_m1 234 rfl) rfl
theorem q314 : (Jvm.Cond.privateMethod ({ cls := "StarTracker", name := "takesOne", desc := "()Z" } : Jvm.MethodName)) ∈ lw_tbl := lw_at lw_m1 235 rfl
theorem q315 : (Jvm.Cond.instanceMethod ({ cls := "StarTracker", name := "takesOne", desc := "()Z" } : Jvm.MethodName)) ∈ lw_all := lw_g (lw_at lw_m1 236 rfl) rfl
theorem q316 : (Jvm.Cond.code ({ cls := "StarTracker", name := "takesOne", desc := "()Z" } : Jvm.MethodName) prog_1_method_32_code (6 : Nat) (Option.some Jvm.ClassFile.FieldType.boolean)) ∈ lw_all := lw_g (lw_at lw_m1 237 rfl) rfl
theorem q317 : (Jvm.Cond.methodLink "StarTracker" (201 : Nat) ({ cls := "StarTracker", name := "isFree", desc := "(I)Z" } : Jvm.MethodName)) ∈ lw_all := lw_g (lw_at lw_m1 238 rfl) rfl
theorem q318 : (Jvm.Cond.privateMethod ({ cls := "StarTracker", name := "isFree", desc := "(I)Z" } : Jvm.MethodName)) ∈ lw_tbl := lw_at lw_m1 239 rfl
theorem q319 : (Jvm.Cond.instanceMethod ({ cls := "StarTracker", name := "isFree", desc := "(I)Z" } : Jvm.MethodName)) ∈ lw_all := lw_g (lw_at lw_m2 0 rfl) rfl
theorem q320 : (Jvm.Cond.code ({ cls := "StarTracker", name := "isFree", desc := "(I)Z" } : Jvm.MethodName) prog_1_method_31_code (4 : Nat) (Option.some Jvm.ClassFile.FieldType.boolean)) ∈ lw_all := lw_g (lw_at lw_m2 1 rfl) rfl
theorem q321 : (Jvm.Cond.methodLink "StarTracker" (287 : Nat) ({ cls := "StarTracker", name := "findsTurn", desc := "()V" } : Jvm.MethodName)) ∈ lw_all := lw_g (lw_at lw_m2 2 rfl) rfl
theorem q322 : (Jvm.Cond.privateMethod ({ cls := "StarTracker", name := "findsTurn", desc := "()V" } : Jvm.MethodName)) ∈ lw_tbl := lw_at lw_m2 3 rfl
theorem q323 : (Jvm.Cond.instanceMethod ({ cls := "StarTracker", name := "findsTurn", desc := "()V" } : Jvm.MethodName)) ∈ lw_all := lw_g (lw_at lw_m2 4 rfl) rfl
theorem q324 : (Jvm.Cond.code ({ cls := "StarTracker", name := "findsTurn", desc := "()V" } : Jvm.MethodName) prog_1_method_39_code (4 : Nat) (Option.none : Option Jvm.ClassFile.FieldType)) ∈ lw_all := lw_g (lw_at lw_m2 5 rfl) rfl
theorem q325 : (Jvm.Cond.methodLink "StarTracker" (261 : Nat) ({ cls := "StarTracker", name := "arms", desc := "(LStarTracker$Body;LStarTracker$Body;[[J)Z" } : Jvm.MethodName)) ∈ lw_all := lw_g (lw_at lw_m2 6 rfl) rfl
theorem q326 : (Jvm.Cond.privateMethod ({ cls := "StarTracker", name := "arms", desc := "(LStarTracker$Body;LStarTracker$Body;[[J)Z" } : Jvm.MethodName)) ∈ lw_tbl := lw_at lw_m2 7 rfl
theorem q327 : (Jvm.Cond.instanceMethod ({ cls := "StarTracker", name := "arms", desc := "(LStarTracker$Body;LStarTracker$Body;[[J)Z" } : Jvm.MethodName)) ∈ lw_all := lw_g (lw_at lw_m2 8 rfl) rfl
theorem q328 : (Jvm.Cond.code ({ cls := "StarTracker", name := "arms", desc := "(LStarTracker$Body;LStarTracker$Body;[[J)Z" } : Jvm.MethodName) prog_1_method_36_code (4 : Nat) (Option.some Jvm.ClassFile.FieldType.boolean)) ∈ lw_all := lw_g (lw_at lw_m2 9 rfl) rfl
theorem q329 : (Jvm.Cond.methodLink "StarTracker" (217 : Nat) ({ cls := "StarTracker", name := "lays", desc := "(LStarTracker$Body;[J)V" } : Jvm.MethodName)) ∈ lw_all := lw_g (lw_at lw_m2 10 rfl) rfl
theorem q330 : (Jvm.Cond.static ({ cls := "StarTracker", name := "lays", desc := "(LStarTracker$Body;[J)V" } : Jvm.MethodName)) ∈ lw_all := lw_g (lw_at lw_m2 11 rfl) rfl
theorem q331 : (Jvm.Cond.code ({ cls := "StarTracker", name := "lays", desc := "(LStarTracker$Body;[J)V" } : Jvm.MethodName) prog_1_method_35_code (3 : Nat) (Option.none : Option Jvm.ClassFile.FieldType)) ∈ lw_all := lw_g (lw_at lw_m2 12 rfl) rfl
theorem q332 : (Jvm.Cond.methodLink "StarTracker" (225 : Nat) ({ cls := "StarTracker", name := "crosses", desc := "([J[J[J)V" } : Jvm.MethodName)) ∈ lw_all := lw_g (lw_at lw_m2 13 rfl) rfl
theorem q333 : (Jvm.Cond.static ({ cls := "StarTracker", name := "crosses", desc := "([J[J[J)V" } : Jvm.MethodName)) ∈ lw_all := lw_g (lw_at lw_m2 14 rfl) rfl
theorem q334 : (Jvm.Cond.code ({ cls := "StarTracker", name := "crosses", desc := "([J[J[J)V" } : Jvm.MethodName) prog_1_method_34_code (6 : Nat) (Option.none : Option Jvm.ClassFile.FieldType)) ∈ lw_all := lw_g (lw_at lw_m2 15 rfl) rfl
theorem q335 : (Jvm.Cond.interfaceEntry "StarTracker" (233 : Nat)) ∈ lw_tbl := lw_at lw_m2 16 rfl
theorem q336 : (Jvm.Cond.methodLink "StarTracker" (233 : Nat) ({ cls := "StarTracker$Product", name := "of", desc := "([J[J)J" } : Jvm.MethodName)) ∈ lw_all := lw_g (lw_at lw_m2 17 rfl) rfl
theorem q339 : (Jvm.Cond.methodLink "StarTracker" (265 : Nat) ({ cls := "StarTracker", name := "findsPlace", desc := "(I)V" } : Jvm.MethodName)) ∈ lw_all := lw_g (lw_at lw_m2 20 rfl) rfl
theorem q340 : (Jvm.Cond.privateMethod ({ cls := "StarTracker", name := "findsPlace", desc := "(I)V" } : Jvm.MethodName)) ∈ lw_tbl := lw_at lw_m2 21 rfl
theorem q341 : (Jvm.Cond.instanceMethod ({ cls := "StarTracker", name := "findsPlace", desc := "(I)V" } : Jvm.MethodName)) ∈ lw_all := lw_g (lw_at lw_m2 22 rfl) rfl
theorem q342 : (Jvm.Cond.code ({ cls := "StarTracker", name := "findsPlace", desc := "(I)V" } : Jvm.MethodName) prog_1_method_38_code (9 : Nat) (Option.none : Option Jvm.ClassFile.FieldType)) ∈ lw_all := lw_g (lw_at lw_m2 23 rfl) rfl
theorem q343 : (Jvm.Cond.methodLink "StarTracker" (255 : Nat) ({ cls := "StarTracker", name := "rounded", desc := "(JJ)J" } : Jvm.MethodName)) ∈ lw_all := lw_g (lw_at lw_m2 24 rfl) rfl
theorem q344 : (Jvm.Cond.static ({ cls := "StarTracker", name := "rounded", desc := "(JJ)J" } : Jvm.MethodName)) ∈ lw_all := lw_g (lw_at lw_m2 25 rfl) rfl
theorem q345 : (Jvm.Cond.code ({ cls := "StarTracker", name := "rounded", desc := "(JJ)J" } : Jvm.MethodName) prog_1_method_37_code (4 : Nat) (Option.some Jvm.ClassFile.FieldType.long)) ∈ lw_all := lw_g (lw_at lw_m2 26 rfl) rfl
theorem q346 : (Jvm.Cond.constantLong "StarTracker" (239 : Nat) (2 : Int64)) ∈ lw_all := lw_g (lw_at lw_m2 27 rfl) rfl
theorem q347 : (Jvm.Cond.methodLink "StarTracker" (241 : Nat) ({ cls := "java/lang/Math", name := "floorDiv", desc := "(JJ)J" } : Jvm.MethodName)) ∈ lw_all := lw_g (lw_at lw_m2 28 rfl) rfl
theorem q350 : (Jvm.Cond.methodLink "StarTracker" (293 : Nat) ({ cls := "StarTracker", name := "confirms", desc := "(I[I)V" } : Jvm.MethodName)) ∈ lw_all := lw_g (lw_at lw_m2 31 rfl) rfl
theorem q351 : (Jvm.Cond.privateMethod ({ cls := "StarTracker", name := "confirms", desc := "(I[I)V" } : Jvm.MethodName)) ∈ lw_tbl := lw_at lw_m2 32 rfl
theorem q352 : (Jvm.Cond.instanceMethod ({ cls := "StarTracker", name := "confirms", desc := "(I[I)V" } : Jvm.MethodName)) ∈ lw_all := lw_g (lw_at lw_m2 33 rfl) rfl
theorem q353 : (Jvm.Cond.code ({ cls := "StarTracker", name := "confirms", desc := "(I[I)V" } : Jvm.MethodName) prog_1_method_41_code (6 : Nat) (Option.none : Option Jvm.ClassFile.FieldType)) ∈ lw_all := lw_g (lw_at lw_m2 34 rfl) rfl
theorem q354 : (Jvm.Cond.methodLink "StarTracker" (277 : Nat) ({ cls := "StarTracker", name := "farOf", desc := "(II)I" } : Jvm.MethodName)) ∈ lw_all := lw_g (lw_at lw_m2 35 rfl) rfl
theorem q355 : (Jvm.Cond.privateMethod ({ cls := "StarTracker", name := "farOf", desc := "(II)I" } : Jvm.MethodName)) ∈ lw_tbl := lw_at lw_m2 36 rfl
theorem q356 : (Jvm.Cond.instanceMethod ({ cls := "StarTracker", name := "farOf", desc := "(II)I" } : Jvm.MethodName)) ∈ lw_all := lw_g (lw_at lw_m2 37 rfl) rfl
theorem q357 : (Jvm.Cond.code ({ cls := "StarTracker", name := "farOf", desc := "(II)I" } : Jvm.MethodName) prog_1_method_40_code (5 : Nat) (Option.some Jvm.ClassFile.FieldType.int)) ∈ lw_all := lw_g (lw_at lw_m2 38 rfl) rfl
theorem q358 : (Jvm.Cond.methodLink "StarTracker" (303 : Nat) ({ cls := "StarTracker", name := "threes", desc := "(I)I" } : Jvm.MethodName)) ∈ lw_all := lw_g (lw_at lw_m2 39 rfl) rfl
theorem q359 : (Jvm.Cond.static ({ cls := "StarTracker", name := "threes", desc := "(I)I" } : Jvm.MethodName)) ∈ lw_all := lw_g (lw_at lw_m2 40 rfl) rfl
theorem q360 : (Jvm.Cond.code ({ cls := "StarTracker", name := "threes", desc := "(I)I" } : Jvm.MethodName) prog_1_method_44_code (1 : Nat) (Option.some Jvm.ClassFile.FieldType.int)) ∈ lw_all := lw_g (lw_at lw_m2 41 rfl) rfl
theorem q362 : (Jvm.Cond.instanceMethod ({ cls := "StarTracker", name := "votes", desc := "(II)I" } : Jvm.MethodName)) ∈ lw_all := lw_g (lw_at lw_m2 43 rfl) rfl
theorem q363 : (Jvm.Cond.selects "StarTracker" ({ cls := "StarTracker", name := "votes", desc := "(II)I" } : Jvm.MethodName) ({ cls := "StarTracker", name := "votes", desc := "(II)I" } : Jvm.MethodName)) ∈ lw_all := lw_g (lw_at lw_m2 44 rfl) rfl
theorem q364 : (Jvm.Cond.code ({ cls := "StarTracker", name := "votes", desc := "(II)I" } : Jvm.MethodName) prog_1_method_48_code (3 : Nat) (Option.some Jvm.ClassFile.FieldType.int)) ∈ lw_all := lw_g (lw_at lw_m2 45 rfl) rfl
theorem q365 : (Jvm.Cond.methodLink "StarTracker" (309 : Nat) ({ cls := "StarTracker", name := "votesOf", desc := "(II)I" } : Jvm.MethodName)) ∈ lw_all := lw_g (lw_at lw_m2 46 rfl) rfl
theorem q366 : (Jvm.Cond.privateMethod ({ cls := "StarTracker", name := "votesOf", desc := "(II)I" } : Jvm.MethodName)) ∈ lw_tbl := lw_at lw_m2 47 rfl
theorem q367 : (Jvm.Cond.instanceMethod ({ cls := "StarTracker", name := "votesOf", desc := "(II)I" } : Jvm.MethodName)) ∈ lw_all := lw_g (lw_at lw_m2 48 rfl) rfl
theorem q368 : (Jvm.Cond.code ({ cls := "StarTracker", name := "votesOf", desc := "(II)I" } : Jvm.MethodName) prog_1_method_47_code (3 : Nat) (Option.some Jvm.ClassFile.FieldType.int)) ∈ lw_all := lw_g (lw_at lw_m2 49 rfl) rfl
theorem q370 : (Jvm.Cond.instanceMethod ({ cls := "StarTracker", name := "taken", desc := "(II)I" } : Jvm.MethodName)) ∈ lw_all := lw_g (lw_at lw_m2 51 rfl) rfl
theorem q371 : (Jvm.Cond.selects "StarTracker" ({ cls := "StarTracker", name := "taken", desc := "(II)I" } : Jvm.MethodName) ({ cls := "StarTracker", name := "taken", desc := "(II)I" } : Jvm.MethodName)) ∈ lw_all := lw_g (lw_at lw_m2 52 rfl) rfl
theorem q372 : (Jvm.Cond.code ({ cls := "StarTracker", name := "taken", desc := "(II)I" } : Jvm.MethodName) prog_1_method_50_code (3 : Nat) (Option.some Jvm.ClassFile.FieldType.int)) ∈ lw_all := lw_g (lw_at lw_m2 53 rfl) rfl
theorem q373 : (Jvm.Cond.methodLink "StarTracker" (312 : Nat) ({ cls := "StarTracker", name := "takenOf", desc := "(II)I" } : Jvm.MethodName)) ∈ lw_all := lw_g (lw_at lw_m2 54 rfl) rfl
theorem q374 : (Jvm.Cond.privateMethod ({ cls := "StarTracker", name := "takenOf", desc := "(II)I" } : Jvm.MethodName)) ∈ lw_tbl := lw_at lw_m2 55 rfl
theorem q375 : (Jvm.Cond.instanceMethod ({ cls := "StarTracker", name := "takenOf", desc := "(II)I" } : Jvm.MethodName)) ∈ lw_all := lw_g (lw_at lw_m2 56 rfl) rfl
theorem q376 : (Jvm.Cond.code ({ cls := "StarTracker", name := "takenOf", desc := "(II)I" } : Jvm.MethodName) prog_1_method_49_code (3 : Nat) (Option.some Jvm.ClassFile.FieldType.int)) ∈ lw_all := lw_g (lw_at lw_m2 57 rfl) rfl
theorem q378 : (Jvm.Cond.instanceMethod ({ cls := "StarTracker", name := "turn", desc := "()I" } : Jvm.MethodName)) ∈ lw_all := lw_g (lw_at lw_m2 59 rfl) rfl
theorem q379 : (Jvm.Cond.selects "StarTracker" ({ cls := "StarTracker", name := "turn", desc := "()I" } : Jvm.MethodName) ({ cls := "StarTracker", name := "turn", desc := "()I" } : Jvm.MethodName)) ∈ lw_all := lw_g (lw_at lw_m2 60 rfl) rfl
theorem q380 : (Jvm.Cond.code ({ cls := "StarTracker", name := "turn", desc := "()I" } : Jvm.MethodName) prog_1_method_52_code (1 : Nat) (Option.some Jvm.ClassFile.FieldType.int)) ∈ lw_all := lw_g (lw_at lw_m2 61 rfl) rfl
theorem q381 : (Jvm.Cond.methodLink "StarTracker" (315 : Nat) ({ cls := "StarTracker", name := "isTurned", desc := "()Z" } : Jvm.MethodName)) ∈ lw_all := lw_g (lw_at lw_m2 62 rfl) rfl
theorem q382 : (Jvm.Cond.privateMethod ({ cls := "StarTracker", name := "isTurned", desc := "()Z" } : Jvm.MethodName)) ∈ lw_tbl := lw_at lw_m2 63 rfl
theorem q383 : (Jvm.Cond.instanceMethod ({ cls := "StarTracker", name := "isTurned", desc := "()Z" } : Jvm.MethodName)) ∈ lw_all := lw_g (lw_at lw_m2 64 rfl) rfl
theorem q384 : (Jvm.Cond.code ({ cls := "StarTracker", name := "isTurned", desc := "()Z" } : Jvm.MethodName) prog_1_method_51_code (1 : Nat) (Option.some Jvm.ClassFile.FieldType.boolean)) ∈ lw_all := lw_g (lw_at lw_m2 65 rfl) rfl
theorem q386 : (Jvm.Cond.instanceMethod ({ cls := "StarTracker", name := "place", desc := "(II)I" } : Jvm.MethodName)) ∈ lw_all := lw_g (lw_at lw_m2 67 rfl) rfl
theorem q387 : (Jvm.Cond.selects "StarTracker" ({ cls := "StarTracker", name := "place", desc := "(II)I" } : Jvm.MethodName) ({ cls := "StarTracker", name := "place", desc := "(II)I" } : Jvm.MethodName)) ∈ lw_all := lw_g (lw_at lw_m2 68 rfl) rfl
theorem q388 : (Jvm.Cond.code ({ cls := "StarTracker", name := "place", desc := "(II)I" } : Jvm.MethodName) prog_1_method_53_code (3 : Nat) (Option.some Jvm.ClassFile.FieldType.int)) ∈ lw_all := lw_g (lw_at lw_m2 69 rfl) rfl
theorem q390 : (Jvm.Cond.instanceMethod ({ cls := "StarTracker", name := "confirmed", desc := "(II)I" } : Jvm.MethodName)) ∈ lw_all := lw_g (lw_at lw_m2 71 rfl) rfl
theorem q391 : (Jvm.Cond.selects "StarTracker" ({ cls := "StarTracker", name := "confirmed", desc := "(II)I" } : Jvm.MethodName) ({ cls := "StarTracker", name := "confirmed", desc := "(II)I" } : Jvm.MethodName)) ∈ lw_all := lw_g (lw_at lw_m2 72 rfl) rfl
theorem q392 : (Jvm.Cond.code ({ cls := "StarTracker", name := "confirmed", desc := "(II)I" } : Jvm.MethodName) prog_1_method_55_code (3 : Nat) (Option.some Jvm.ClassFile.FieldType.int)) ∈ lw_all := lw_g (lw_at lw_m2 73 rfl) rfl
theorem q393 : (Jvm.Cond.methodLink "StarTracker" (318 : Nat) ({ cls := "StarTracker", name := "confirmedOf", desc := "(II)I" } : Jvm.MethodName)) ∈ lw_all := lw_g (lw_at lw_m2 74 rfl) rfl
theorem q394 : (Jvm.Cond.privateMethod ({ cls := "StarTracker", name := "confirmedOf", desc := "(II)I" } : Jvm.MethodName)) ∈ lw_tbl := lw_at lw_m2 75 rfl
theorem q395 : (Jvm.Cond.instanceMethod ({ cls := "StarTracker", name := "confirmedOf", desc := "(II)I" } : Jvm.MethodName)) ∈ lw_all := lw_g (lw_at lw_m2 76 rfl) rfl
theorem q396 : (Jvm.Cond.code ({ cls := "StarTracker", name := "confirmedOf", desc := "(II)I" } : Jvm.MethodName) prog_1_method_54_code (3 : Nat) (Option.some Jvm.ClassFile.FieldType.int)) ∈ lw_all := lw_g (lw_at lw_m2 77 rfl) rfl
theorem q398 : (Jvm.Cond.instanceMethod ({ cls := "StarTracker", name := "wrong", desc := "()I" } : Jvm.MethodName)) ∈ lw_all := lw_g (lw_at lw_m2 79 rfl) rfl
theorem q399 : (Jvm.Cond.selects "StarTracker" ({ cls := "StarTracker", name := "wrong", desc := "()I" } : Jvm.MethodName) ({ cls := "StarTracker", name := "wrong", desc := "()I" } : Jvm.MethodName)) ∈ lw_all := lw_g (lw_at lw_m2 80 rfl) rfl
theorem q400 : (Jvm.Cond.code ({ cls := "StarTracker", name := "wrong", desc := "()I" } : Jvm.MethodName) prog_1_method_57_code (1 : Nat) (Option.some Jvm.ClassFile.FieldType.int)) ∈ lw_all := lw_g (lw_at lw_m2 81 rfl) rfl
theorem q401 : (Jvm.Cond.methodLink "StarTracker" (321 : Nat) ({ cls := "StarTracker", name := "wrongOf", desc := "()I" } : Jvm.MethodName)) ∈ lw_all := lw_g (lw_at lw_m2 82 rfl) rfl
theorem q402 : (Jvm.Cond.privateMethod ({ cls := "StarTracker", name := "wrongOf", desc := "()I" } : Jvm.MethodName)) ∈ lw_tbl := lw_at lw_m2 83 rfl
theorem q403 : (Jvm.Cond.instanceMethod ({ cls := "StarTracker", name := "wrongOf", desc := "()I" } : Jvm.MethodName)) ∈ lw_all := lw_g (lw_at lw_m2 84 rfl) rfl
theorem q404 : (Jvm.Cond.code ({ cls := "StarTracker", name := "wrongOf", desc := "()I" } : Jvm.MethodName) prog_1_method_56_code (3 : Nat) (Option.some Jvm.ClassFile.FieldType.int)) ∈ lw_all := lw_g (lw_at lw_m2 85 rfl) rfl
theorem q406 : (Jvm.Cond.instanceMethod ({ cls := "StarTracker", name := "better", desc := "(I)I" } : Jvm.MethodName)) ∈ lw_all := lw_g (lw_at lw_m2 87 rfl) rfl
theorem q407 : (Jvm.Cond.selects "StarTracker" ({ cls := "StarTracker", name := "better", desc := "(I)I" } : Jvm.MethodName) ({ cls := "StarTracker", name := "better", desc := "(I)I" } : Jvm.MethodName)) ∈ lw_all := lw_g (lw_at lw_m2 88 rfl) rfl
theorem q408 : (Jvm.Cond.code ({ cls := "StarTracker", name := "better", desc := "(I)I" } : Jvm.MethodName) prog_1_method_60_code (2 : Nat) (Option.some Jvm.ClassFile.FieldType.int)) ∈ lw_all := lw_g (lw_at lw_m2 89 rfl) rfl
theorem q409 : (Jvm.Cond.methodLink "StarTracker" (327 : Nat) ({ cls := "StarTracker", name := "betterOf", desc := "(I)I" } : Jvm.MethodName)) ∈ lw_all := lw_g (lw_at lw_m2 90 rfl) rfl
theorem q410 : (Jvm.Cond.privateMethod ({ cls := "StarTracker", name := "betterOf", desc := "(I)I" } : Jvm.MethodName)) ∈ lw_tbl := lw_at lw_m2 91 rfl
theorem q411 : (Jvm.Cond.instanceMethod ({ cls := "StarTracker", name := "betterOf", desc := "(I)I" } : Jvm.MethodName)) ∈ lw_all := lw_g (lw_at lw_m2 92 rfl) rfl
theorem q412 : (Jvm.Cond.code ({ cls := "StarTracker", name := "betterOf", desc := "(I)I" } : Jvm.MethodName) prog_1_method_59_code (6 : Nat) (Option.some Jvm.ClassFile.FieldType.int)) ∈ lw_all := lw_g (lw_at lw_m2 93 rfl) rfl
theorem q413 : (Jvm.Cond.methodLink "StarTracker" (324 : Nat) ({ cls := "StarTracker", name := "confirmedNow", desc := "()I" } : Jvm.MethodName)) ∈ lw_all := lw_g (lw_at lw_m2 94 rfl) rfl
theorem q414 : (Jvm.Cond.privateMethod ({ cls := "StarTracker", name := "confirmedNow", desc := "()I" } : Jvm.MethodName)) ∈ lw_tbl := lw_at lw_m2 95 rfl
theorem q415 : (Jvm.Cond.instanceMethod ({ cls := "StarTracker", name := "confirmedNow", desc := "()I" } : Jvm.MethodName)) ∈ lw_all := lw_g (lw_at lw_m2 96 rfl) rfl
theorem q416 : (Jvm.Cond.code ({ cls := "StarTracker", name := "confirmedNow", desc := "()I" } : Jvm.MethodName) prog_1_method_58_code (3 : Nat) (Option.some Jvm.ClassFile.FieldType.int)) ∈ lw_all := lw_g (lw_at lw_m2 97 rfl) rfl
theorem q418 : (Jvm.Cond.instanceMethod ({ cls := "StarTracker", name := "spare", desc := "(I)I" } : Jvm.MethodName)) ∈ lw_all := lw_g (lw_at lw_m2 99 rfl) rfl
theorem q419 : (Jvm.Cond.selects "StarTracker" ({ cls := "StarTracker", name := "spare", desc := "(I)I" } : Jvm.MethodName) ({ cls := "StarTracker", name := "spare", desc := "(I)I" } : Jvm.MethodName)) ∈ lw_all := lw_g (lw_at lw_m2 100 rfl) rfl
theorem q420 : (Jvm.Cond.code ({ cls := "StarTracker", name := "spare", desc := "(I)I" } : Jvm.MethodName) prog_1_method_62_code (2 : Nat) (Option.some Jvm.ClassFile.FieldType.int)) ∈ lw_all := lw_g (lw_at lw_m2 101 rfl) rfl
theorem q421 : (Jvm.Cond.methodLink "StarTracker" (330 : Nat) ({ cls := "StarTracker", name := "spareOf", desc := "(I)I" } : Jvm.MethodName)) ∈ lw_all := lw_g (lw_at lw_m2 102 rfl) rfl
theorem q422 : (Jvm.Cond.privateMethod ({ cls := "StarTracker", name := "spareOf", desc := "(I)I" } : Jvm.MethodName)) ∈ lw_tbl := lw_at lw_m2 103 rfl
theorem q423 : (Jvm.Cond.instanceMethod ({ cls := "StarTracker", name := "spareOf", desc := "(I)I" } : Jvm.MethodName)) ∈ lw_all := lw_g (lw_at lw_m2 104 rfl) rfl
theorem q424 : (Jvm.Cond.code ({ cls := "StarTracker", name := "spareOf", desc := "(I)I" } : Jvm.MethodName) prog_1_method_61_code (6 : Nat) (Option.some Jvm.ClassFile.FieldType.int)) ∈ lw_all := lw_g (lw_at lw_m2 105 rfl) rfl
theorem q426 : (Jvm.Cond.instanceMethod ({ cls := "StarTracker", name := "put", desc := "(III)I" } : Jvm.MethodName)) ∈ lw_all := lw_g (lw_at lw_m2 107 rfl) rfl
theorem q427 : (Jvm.Cond.selects "StarTracker" ({ cls := "StarTracker", name := "put", desc := "(III)I" } : Jvm.MethodName) ({ cls := "StarTracker", name := "put", desc := "(III)I" } : Jvm.MethodName)) ∈ lw_all := lw_g (lw_at lw_m2 108 rfl) rfl
theorem q428 : (Jvm.Cond.code ({ cls := "StarTracker", name := "put", desc := "(III)I" } : Jvm.MethodName) prog_1_method_65_code (4 : Nat) (Option.some Jvm.ClassFile.FieldType.int)) ∈ lw_all := lw_g (lw_at lw_m2 109 rfl) rfl
theorem q429 : (Jvm.Cond.methodLink "StarTracker" (341 : Nat) ({ cls := "StarTracker", name := "isTray", desc := "(I)Z" } : Jvm.MethodName)) ∈ lw_all := lw_g (lw_at lw_m2 110 rfl) rfl
theorem q430 : (Jvm.Cond.static ({ cls := "StarTracker", name := "isTray", desc := "(I)Z" } : Jvm.MethodName)) ∈ lw_all := lw_g (lw_at lw_m2 111 rfl) rfl
theorem q431 : (Jvm.Cond.code ({ cls := "StarTracker", name := "isTray", desc := "(I)Z" } : Jvm.MethodName) prog_1_method_63_code (1 : Nat) (Option.some Jvm.ClassFile.FieldType.boolean)) ∈ lw_all := lw_g (lw_at lw_m2 112 rfl) rfl
theorem q432 : (Jvm.Cond.methodLink "StarTracker" (344 : Nat) ({ cls := "StarTracker", name := "puts", desc := "(ILStarTracker$Body;)I" } : Jvm.MethodName)) ∈ lw_all := lw_g (lw_at lw_m2 113 rfl) rfl
theorem q433 : (Jvm.Cond.privateMethod ({ cls := "StarTracker", name := "puts", desc := "(ILStarTracker$Body;)I" } : Jvm.MethodName)) ∈ lw_tbl := lw_at lw_m2 114 rfl
theorem q434 : (Jvm.Cond.instanceMethod ({ cls := "StarTracker", name := "puts", desc := "(ILStarTracker$Body;)I" } : Jvm.MethodName)) ∈ lw_all := lw_g (lw_at lw_m2 115 rfl) rfl
theorem q435 : (Jvm.Cond.codeWith ({ cls := "StarTracker", name := "puts", desc := "(ILStarTracker$Body;)I" } : Jvm.MethodName) prog_1_method_64_code (4 : Nat) (Option.some Jvm.ClassFile.FieldType.int) [((14 : Nat), (28 : Nat), (31 : Nat), (339 : Nat))]) ∈ lw_all := lw_g (lw_at lw_m2 116 rfl) rfl
theorem q436 : (Jvm.Cond.classLink "StarTracker" (339 : Nat) "java/lang/ArrayStoreException") ∈ lw_all := lw_g (lw_at lw_m2 117 rfl) rfl
theorem q523 : (Jvm.Cond.instanceMethod ({ cls := "StarTracker", name := "fork", desc := "(II)I" } : Jvm.MethodName)) ∈ lw_all := lw_g (lw_at lw_m2 204 rfl) rfl
theorem q524 : (Jvm.Cond.selects "StarTracker" ({ cls := "StarTracker", name := "fork", desc := "(II)I" } : Jvm.MethodName) ({ cls := "StarTracker", name := "fork", desc := "(II)I" } : Jvm.MethodName)) ∈ lw_all := lw_g (lw_at lw_m2 205 rfl) rfl
theorem q525 : (Jvm.Cond.code ({ cls := "StarTracker", name := "fork", desc := "(II)I" } : Jvm.MethodName) prog_1_method_66_code (3 : Nat) (Option.some Jvm.ClassFile.FieldType.int)) ∈ lw_all := lw_g (lw_at lw_m2 206 rfl) rfl
theorem q526 : (Jvm.Cond.methodLink "StarTracker" (348 : Nat) ({ cls := "[LStarTracker$Body;", name := "clone", desc := "()Ljava/lang/Object;" } : Jvm.MethodName)) ∈ lw_all := lw_g (lw_at lw_m2 207 rfl) rfl
theorem q533 : (Jvm.Cond.classLink "StarTracker" (349 : Nat) "[LStarTracker$Body;") ∈ lw_all := lw_g (lw_at lw_m2 214 rfl) rfl
theorem q535 : (Jvm.Cond.instanceMethod ({ cls := "StarTracker", name := "take", desc := "(I)I" } : Jvm.MethodName)) ∈ lw_all := lw_g (lw_at lw_m2 216 rfl) rfl
theorem q536 : (Jvm.Cond.selects "StarTracker" ({ cls := "StarTracker", name := "take", desc := "(I)I" } : Jvm.MethodName) ({ cls := "StarTracker", name := "take", desc := "(I)I" } : Jvm.MethodName)) ∈ lw_all := lw_g (lw_at lw_m2 217 rfl) rfl
theorem q537 : (Jvm.Cond.code ({ cls := "StarTracker", name := "take", desc := "(I)I" } : Jvm.MethodName) prog_1_method_67_code (2 : Nat) (Option.some Jvm.ClassFile.FieldType.int)) ∈ lw_all := lw_g (lw_at lw_m2 218 rfl) rfl
theorem q539 : (Jvm.Cond.instanceMethod ({ cls := "StarTracker", name := "thing", desc := "(III)I" } : Jvm.MethodName)) ∈ lw_all := lw_g (lw_at lw_m2 220 rfl) rfl
theorem q540 : (Jvm.Cond.selects "StarTracker" ({ cls := "StarTracker", name := "thing", desc := "(III)I" } : Jvm.MethodName) ({ cls := "StarTracker", name := "thing", desc := "(III)I" } : Jvm.MethodName)) ∈ lw_all := lw_g (lw_at lw_m2 221 rfl) rfl
theorem q541 : (Jvm.Cond.code ({ cls := "StarTracker", name := "thing", desc := "(III)I" } : Jvm.MethodName) prog_1_method_70_code (4 : Nat) (Option.some Jvm.ClassFile.FieldType.int)) ∈ lw_all := lw_g (lw_at lw_m2 222 rfl) rfl
theorem q542 : (Jvm.Cond.methodLink "StarTracker" (357 : Nat) ({ cls := "StarTracker", name := "isLaid", desc := "(II)Z" } : Jvm.MethodName)) ∈ lw_all := lw_g (lw_at lw_m2 223 rfl) rfl
theorem q543 : (Jvm.Cond.privateMethod ({ cls := "StarTracker", name := "isLaid", desc := "(II)Z" } : Jvm.MethodName)) ∈ lw_tbl := lw_at lw_m2 224 rfl
theorem q544 : (Jvm.Cond.instanceMethod ({ cls := "StarTracker", name := "isLaid", desc := "(II)Z" } : Jvm.MethodName)) ∈ lw_all := lw_g (lw_at lw_m2 225 rfl) rfl
theorem q545 : (Jvm.Cond.code ({ cls := "StarTracker", name := "isLaid", desc := "(II)Z" } : Jvm.MethodName) prog_1_method_68_code (3 : Nat) (Option.some Jvm.ClassFile.FieldType.boolean)) ∈ lw_all := lw_g (lw_at lw_m2 226 rfl) rfl
theorem q546 : (Jvm.Cond.methodLink "StarTracker" (360 : Nat) ({ cls := "StarTracker", name := "thingOf", desc := "(LStarTracker$Body;I)I" } : Jvm.MethodName)) ∈ lw_all := lw_g (lw_at lw_m2 227 rfl) rfl
theorem q547 : (Jvm.Cond.static ({ cls := "StarTracker", name := "thingOf", desc := "(LStarTracker$Body;I)I" } : Jvm.MethodName)) ∈ lw_all := lw_g (lw_at lw_m2 228 rfl) rfl
theorem q548 : (Jvm.Cond.code ({ cls := "StarTracker", name := "thingOf", desc := "(LStarTracker$Body;I)I" } : Jvm.MethodName) prog_1_method_69_code (2 : Nat) (Option.some Jvm.ClassFile.FieldType.int)) ∈ lw_all := lw_g (lw_at lw_m2 229 rfl) rfl
theorem q549 : (Jvm.Cond.methodLink "StarTracker" (354 : Nat) ({ cls := "StarTracker$Body", name := "kind", desc := "()I" } : Jvm.MethodName)) ∈ lw_all := lw_g (lw_at lw_m2 230 rfl) rfl
theorem q559 : (Jvm.Cond.instanceMethod ({ cls := "StarTracker", name := "share", desc := "(III)I" } : Jvm.MethodName)) ∈ lw_all := lw_g (lw_at lw_m3 0 rfl) rfl
theorem q560 : (Jvm.Cond.selects "StarTracker" ({ cls := "StarTracker", name := "share", desc := "(III)I" } : Jvm.MethodName) ({ cls := "StarTracker", name := "share", desc := "(III)I" } : Jvm.MethodName)) ∈ lw_all := lw_g (lw_at lw_m3 1 rfl) rfl
theorem q561 : (Jvm.Cond.code ({ cls := "StarTracker", name := "share", desc := "(III)I" } : Jvm.MethodName) prog_1_method_72_code (4 : Nat) (Option.some Jvm.ClassFile.FieldType.int)) ∈ lw_all := lw_g (lw_at lw_m3 2 rfl) rfl
theorem q562 : (Jvm.Cond.methodLink "StarTracker" (372 : Nat) ({ cls := "StarTracker", name := "shareOf", desc := "(LStarTracker$Body;LStarTracker$Body;)I" } : Jvm.MethodName)) ∈ lw_all := lw_g (lw_at lw_m3 3 rfl) rfl
theorem q563 : (Jvm.Cond.static ({ cls := "StarTracker", name := "shareOf", desc := "(LStarTracker$Body;LStarTracker$Body;)I" } : Jvm.MethodName)) ∈ lw_all := lw_g (lw_at lw_m3 4 rfl) rfl
theorem q564 : (Jvm.Cond.code ({ cls := "StarTracker", name := "shareOf", desc := "(LStarTracker$Body;LStarTracker$Body;)I" } : Jvm.MethodName) prog_1_method_71_code (4 : Nat) (Option.some Jvm.ClassFile.FieldType.int)) ∈ lw_all := lw_g (lw_at lw_m3 5 rfl) rfl
theorem q565 : (Jvm.Cond.methodLink "StarTracker" (364 : Nat) ({ cls := "StarTracker$Body", name := "dot", desc := "(LStarTracker$Body;)I" } : Jvm.MethodName)) ∈ lw_all := lw_g (lw_at lw_m3 6 rfl) rfl
theorem q571 : (Jvm.Cond.methodLink "StarTracker" (366 : Nat) ({ cls := "java/lang/Float", name := "floatToIntBits", desc := "(F)I" } : Jvm.MethodName)) ∈ lw_all := lw_g (lw_at lw_m3 12 rfl) rfl
theorem q583 : (Jvm.Cond.instanceMethod ({ cls := "StarTracker", name := "<init>", desc := "()V" } : Jvm.MethodName)) ∈ lw_all := lw_g (lw_at lw_m3 24 rfl) rfl
theorem q584 : (Jvm.Cond.code ({ cls := "StarTracker", name := "<init>", desc := "()V" } : Jvm.MethodName) prog_1_method_73_code (1 : Nat) (Option.none : Option Jvm.ClassFile.FieldType)) ∈ lw_all := lw_g (lw_at lw_m3 25 rfl) rfl
theorem q585 : (Jvm.Cond.methodLink "StarTracker" (376 : Nat) ({ cls := "java/lang/Object", name := "<init>", desc := "()V" } : Jvm.MethodName)) ∈ lw_all := lw_g (lw_at lw_m3 26 rfl) rfl
theorem q586 : (Jvm.Cond.classLink "StarTracker" (105 : Nat) "StarTracker$Turner") ∈ lw_all := lw_g (lw_at lw_m3 27 rfl) rfl
theorem q589 : (Jvm.Cond.static ({ cls := "StarTracker", name := "aroundX", desc := "([I)V" } : Jvm.MethodName)) ∈ lw_all := lw_g (lw_at lw_m3 30 rfl) rfl
theorem q590 : (Jvm.Cond.code ({ cls := "StarTracker", name := "aroundX", desc := "([I)V" } : Jvm.MethodName) prog_1_method_5_code (2 : Nat) (Option.none : Option Jvm.ClassFile.FieldType)) ∈ lw_all := lw_g (lw_at lw_m3 31 rfl) rfl
theorem q591 : (Jvm.Cond.methodLink "StarTracker" (383 : Nat) ({ cls := "StarTracker$Turner", name := "<init>", desc := "(LStarTracker$Quarter;)V" } : Jvm.MethodName)) ∈ lw_all := lw_g (lw_at lw_m3 32 rfl) rfl
theorem q596 : (Jvm.Cond.fieldLink "StarTracker" (104 : Nat) "StarTracker$Turner" "quarter" "LStarTracker$Quarter;") ∈ lw_all := lw_g (lw_at lw_m3 37 rfl) rfl
theorem q600 : (Jvm.Cond.static ({ cls := "StarTracker", name := "aroundY", desc := "([I)V" } : Jvm.MethodName)) ∈ lw_all := lw_g (lw_at lw_m3 41 rfl) rfl
theorem q601 : (Jvm.Cond.code ({ cls := "StarTracker", name := "aroundY", desc := "([I)V" } : Jvm.MethodName) prog_1_method_6_code (2 : Nat) (Option.none : Option Jvm.ClassFile.FieldType)) ∈ lw_all := lw_g (lw_at lw_m3 42 rfl) rfl
theorem q602 : (Jvm.Cond.static ({ cls := "StarTracker", name := "aroundZ", desc := "([I)V" } : Jvm.MethodName)) ∈ lw_all := lw_g (lw_at lw_m3 43 rfl) rfl
theorem q603 : (Jvm.Cond.code ({ cls := "StarTracker", name := "aroundZ", desc := "([I)V" } : Jvm.MethodName) prog_1_method_7_code (2 : Nat) (Option.none : Option Jvm.ClassFile.FieldType)) ∈ lw_all := lw_g (lw_at lw_m3 44 rfl) rfl
theorem q604 : (Jvm.Cond.static ({ cls := "StarTracker", name := "lambda$new$0", desc := "(II)Z" } : Jvm.MethodName)) ∈ lw_all := lw_g (lw_at lw_m3 45 rfl) rfl
theorem q605 : (Jvm.Cond.code ({ cls := "StarTracker", name := "lambda$new$0", desc := "(II)Z" } : Jvm.MethodName) prog_1_method_96_code (2 : Nat) (Option.some Jvm.ClassFile.FieldType.boolean)) ∈ lw_all := lw_g (lw_at lw_m3 46 rfl) rfl
theorem q606 : (Jvm.Cond.static ({ cls := "StarTracker", name := "lambda$new$1", desc := "([J[J)J" } : Jvm.MethodName)) ∈ lw_all := lw_g (lw_at lw_m3 47 rfl) rfl
theorem q607 : (Jvm.Cond.code ({ cls := "StarTracker", name := "lambda$new$1", desc := "([J[J)J" } : Jvm.MethodName) prog_1_method_95_code (2 : Nat) (Option.some Jvm.ClassFile.FieldType.long)) ∈ lw_all := lw_g (lw_at lw_m3 48 rfl) rfl
theorem q609 : (Jvm.Cond.classLink "StarTracker" (51 : Nat) "StarTracker$Body") ∈ lw_all := lw_g (lw_at lw_m3 50 rfl) rfl
theorem q610 : (Jvm.Cond.classLink "StarTracker" (394 : Nat) "[[I") ∈ lw_all := lw_g (lw_at lw_m3 51 rfl) rfl
theorem q612 : (Jvm.Cond.classLink "StarTracker" (395 : Nat) "[[J") ∈ lw_all := lw_g (lw_at lw_m3 53 rfl) rfl
theorem q616 : (Jvm.Cond.classLink "StarTracker" (65 : Nat) "StarTracker$Sheet") ∈ lw_all := lw_g (lw_at lw_m3 57 rfl) rfl
theorem q619 : (Jvm.Cond.methodLinkNest "StarTracker" (396 : Nat) ({ cls := "StarTracker$Sheet", name := "<init>", desc := "()V" } : Jvm.MethodName) "StarTracker") ∈ lw_tbl := lw_at lw_m3 60 rfl
theorem q624 : (Jvm.Cond.fieldLinkNest "StarTracker" (406 : Nat) "StarTracker$Sheet" "form" "I" "StarTracker") ∈ lw_tbl := lw_at lw_m3 65 rfl
theorem q626 : (Jvm.Cond.fieldLinkNest "StarTracker" (64 : Nat) "StarTracker$Sheet" "row" "Ljava/lang/Object;" "StarTracker") ∈ lw_tbl := lw_at lw_m3 67 rfl
theorem q633 : (Jvm.Cond.fieldLink "StarTracker" (100 : Nat) "StarTracker" "turners" "[LStarTracker$Turner;") ∈ lw_all := lw_g (lw_at lw_m3 74 rfl) rfl
theorem q634 : (Jvm.Cond.fieldLink "StarTracker" (176 : Nat) "StarTracker" "near" "LStarTracker$Fit;") ∈ lw_all := lw_g (lw_at lw_m3 75 rfl) rfl
theorem q635 : (Jvm.Cond.fieldLink "StarTracker" (229 : Nat) "StarTracker" "dot" "LStarTracker$Product;") ∈ lw_all := lw_g (lw_at lw_m3 76 rfl) rfl
theorem q636 : (Jvm.Cond.fieldLink "StarTracker" (7 : Nat) "StarTracker" "bodies" "[[LStarTracker$Body;") ∈ lw_all := lw_g (lw_at lw_m3 77 rfl) rfl
theorem q637 : (Jvm.Cond.fieldLink "StarTracker" (11 : Nat) "StarTracker" "many" "[I") ∈ lw_all := lw_g (lw_at lw_m3 78 rfl) rfl
theorem q638 : (Jvm.Cond.fieldLink "StarTracker" (130 : Nat) "StarTracker" "settings" "[I") ∈ lw_all := lw_g (lw_at lw_m3 79 rfl) rfl
theorem q639 : (Jvm.Cond.fieldLink "StarTracker" (24 : Nat) "StarTracker" "isVoted" "Z") ∈ lw_all := lw_g (lw_at lw_m3 80 rfl) rfl
theorem q640 : (Jvm.Cond.fieldLink "StarTracker" (81 : Nat) "StarTracker" "lotsNow" "I") ∈ lw_all := lw_g (lw_at lw_m3 81 rfl) rfl
theorem q641 : (Jvm.Cond.fieldLink "StarTracker" (85 : Nat) "StarTracker" "seen" "[I") ∈ lw_all := lw_g (lw_at lw_m3 82 rfl) rfl
theorem q642 : (Jvm.Cond.fieldLink "StarTracker" (140 : Nat) "StarTracker" "keyOne" "[I") ∈ lw_all := lw_g (lw_at lw_m3 83 rfl) rfl
theorem q643 : (Jvm.Cond.fieldLink "StarTracker" (173 : Nat) "StarTracker" "keyTwo" "[I") ∈ lw_all := lw_g (lw_at lw_m3 84 rfl) rfl
theorem q644 : (Jvm.Cond.fieldLink "StarTracker" (156 : Nat) "StarTracker" "votes" "[[I") ∈ lw_all := lw_g (lw_at lw_m3 85 rfl) rfl
theorem q645 : (Jvm.Cond.fieldLink "StarTracker" (163 : Nat) "StarTracker" "looked" "I") ∈ lw_all := lw_g (lw_at lw_m3 86 rfl) rfl
theorem q646 : (Jvm.Cond.fieldLink "StarTracker" (160 : Nat) "StarTracker" "matched" "I") ∈ lw_all := lw_g (lw_at lw_m3 87 rfl) rfl
theorem q647 : (Jvm.Cond.fieldLink "StarTracker" (191 : Nat) "StarTracker" "without" "I") ∈ lw_all := lw_g (lw_at lw_m3 88 rfl) rfl
theorem q648 : (Jvm.Cond.fieldLink "StarTracker" (166 : Nat) "StarTracker" "trio" "[I") ∈ lw_all := lw_g (lw_at lw_m3 89 rfl) rfl
theorem q649 : (Jvm.Cond.fieldLink "StarTracker" (198 : Nat) "StarTracker" "takenStar" "[I") ∈ lw_all := lw_g (lw_at lw_m3 90 rfl) rfl
theorem q650 : (Jvm.Cond.fieldLink "StarTracker" (204 : Nat) "StarTracker" "takenAs" "[I") ∈ lw_all := lw_g (lw_at lw_m3 91 rfl) rfl
theorem q651 : (Jvm.Cond.fieldLink "StarTracker" (210 : Nat) "StarTracker" "takenSpot" "[I") ∈ lw_all := lw_g (lw_at lw_m3 92 rfl) rfl
theorem q652 : (Jvm.Cond.fieldLink "StarTracker" (207 : Nat) "StarTracker" "pairs" "I") ∈ lw_all := lw_g (lw_at lw_m3 93 rfl) rfl
theorem q653 : (Jvm.Cond.fieldLink "StarTracker" (245 : Nat) "StarTracker" "starArms" "[[J") ∈ lw_all := lw_g (lw_at lw_m3 94 rfl) rfl
theorem q654 : (Jvm.Cond.fieldLink "StarTracker" (249 : Nat) "StarTracker" "spotArms" "[[J") ∈ lw_all := lw_g (lw_at lw_m3 95 rfl) rfl
theorem q655 : (Jvm.Cond.fieldLink "StarTracker" (258 : Nat) "StarTracker" "isTurn" "Z") ∈ lw_all := lw_g (lw_at lw_m3 96 rfl) rfl
theorem q656 : (Jvm.Cond.fieldLink "StarTracker" (252 : Nat) "StarTracker" "places" "[[I") ∈ lw_all := lw_g (lw_at lw_m3 97 rfl) rfl
theorem q657 : (Jvm.Cond.fieldLink "StarTracker" (271 : Nat) "StarTracker" "byStar" "[I") ∈ lw_all := lw_g (lw_at lw_m3 98 rfl) rfl
theorem q658 : (Jvm.Cond.fieldLink "StarTracker" (274 : Nat) "StarTracker" "byFar" "[I") ∈ lw_all := lw_g (lw_at lw_m3 99 rfl) rfl
theorem q659 : (Jvm.Cond.fieldLink "StarTracker" (221 : Nat) "StarTracker" "one" "[J") ∈ lw_all := lw_g (lw_at lw_m3 100 rfl) rfl
theorem q660 : (Jvm.Cond.fieldLink "StarTracker" (290 : Nat) "StarTracker" "usedNow" "[I") ∈ lw_all := lw_g (lw_at lw_m3 101 rfl) rfl
theorem q661 : (Jvm.Cond.fieldLink "StarTracker" (336 : Nat) "StarTracker" "trays" "[[LStarTracker$Body;") ∈ lw_all := lw_g (lw_at lw_m3 102 rfl) rfl
theorem q662 : (Jvm.Cond.fieldLink "StarTracker" (333 : Nat) "StarTracker" "laidMany" "[I") ∈ lw_all := lw_g (lw_at lw_m3 103 rfl) rfl
theorem q663 : (Jvm.Cond.fieldLink "StarTracker" (60 : Nat) "StarTracker" "sheets" "[LStarTracker$Sheet;") ∈ lw_all := lw_g (lw_at lw_m3 104 rfl) rfl
theorem q664 : (Jvm.Cond.fieldLink "StarTracker" (397 : Nat) "StarTracker" "finding" "I") ∈ lw_all := lw_g (lw_at lw_m3 105 rfl) rfl
theorem q665 : (Jvm.Cond.laysFinal "StarTracker" "StarTracker" "turners" "[LStarTracker$Turner;") ∈ lw_all := lw_g (lw_at lw_m3 106 rfl) rfl
theorem q666 : (Jvm.Cond.soleField "StarTracker" "turners") ∈ lw_all := lw_g (lw_at lw_m3 107 rfl) rfl
theorem q667 : (Jvm.Cond.laysFinal "StarTracker" "StarTracker" "near" "LStarTracker$Fit;") ∈ lw_all := lw_g (lw_at lw_m3 108 rfl) rfl
theorem q668 : (Jvm.Cond.soleField "StarTracker" "near") ∈ lw_all := lw_g (lw_at lw_m3 109 rfl) rfl
theorem q669 : (Jvm.Cond.laysFinal "StarTracker" "StarTracker" "dot" "LStarTracker$Product;") ∈ lw_all := lw_g (lw_at lw_m3 110 rfl) rfl
theorem q670 : (Jvm.Cond.soleField "StarTracker" "dot") ∈ lw_all := lw_g (lw_at lw_m3 111 rfl) rfl
theorem q671 : (Jvm.Cond.laysFinal "StarTracker" "StarTracker" "bodies" "[[LStarTracker$Body;") ∈ lw_all := lw_g (lw_at lw_m3 112 rfl) rfl
theorem q672 : (Jvm.Cond.soleField "StarTracker" "bodies") ∈ lw_all := lw_g (lw_at lw_m3 113 rfl) rfl
theorem q673 : (Jvm.Cond.laysFinal "StarTracker" "StarTracker" "many" "[I") ∈ lw_all := lw_g (lw_at lw_m3 114 rfl) rfl
theorem q674 : (Jvm.Cond.soleField "StarTracker" "many") ∈ lw_all := lw_g (lw_at lw_m3 115 rfl) rfl
theorem q675 : (Jvm.Cond.laysFinal "StarTracker" "StarTracker" "settings" "[I") ∈ lw_all := lw_g (lw_at lw_m3 116 rfl) rfl
theorem q676 : (Jvm.Cond.soleField "StarTracker" "settings") ∈ lw_all := lw_g (lw_at lw_m3 117 rfl) rfl
theorem q677 : (Jvm.Cond.lays "StarTracker" "StarTracker" "isVoted" "Z") ∈ lw_all := lw_g (lw_at lw_m3 118 rfl) rfl
theorem q678 : (Jvm.Cond.soleField "StarTracker" "isVoted") ∈ lw_all := lw_g (lw_at lw_m3 119 rfl) rfl
theorem q679 : (Jvm.Cond.lays "StarTracker" "StarTracker" "lotsNow" "I") ∈ lw_all := lw_g (lw_at lw_m3 120 rfl) rfl
theorem q680 : (Jvm.Cond.soleField "StarTracker" "lotsNow") ∈ lw_all := lw_g (lw_at lw_m3 121 rfl) rfl
theorem q681 : (Jvm.Cond.laysFinal "StarTracker" "StarTracker" "seen" "[I") ∈ lw_all := lw_g (lw_at lw_m3 122 rfl) rfl
theorem q682 : (Jvm.Cond.soleField "StarTracker" "seen") ∈ lw_all := lw_g (lw_at lw_m3 123 rfl) rfl
theorem q683 : (Jvm.Cond.laysFinal "StarTracker" "StarTracker" "keyOne" "[I") ∈ lw_all := lw_g (lw_at lw_m3 124 rfl) rfl
theorem q684 : (Jvm.Cond.soleField "StarTracker" "keyOne") ∈ lw_all := lw_g (lw_at lw_m3 125 rfl) rfl
theorem q685 : (Jvm.Cond.laysFinal "StarTracker" "StarTracker" "keyTwo" "[I") ∈ lw_all := lw_g (lw_at lw_m3 126 rfl) rfl
theorem q686 : (Jvm.Cond.soleField "StarTracker" "keyTwo") ∈ lw_all := lw_g (lw_at lw_m3 127 rfl) rfl
theorem q687 : (Jvm.Cond.laysFinal "StarTracker" "StarTracker" "votes" "[[I") ∈ lw_all := lw_g (lw_at lw_m3 128 rfl) rfl
theorem q688 : (Jvm.Cond.soleField "StarTracker" "votes") ∈ lw_all := lw_g (lw_at lw_m3 129 rfl) rfl
theorem q689 : (Jvm.Cond.lays "StarTracker" "StarTracker" "looked" "I") ∈ lw_all := lw_g (lw_at lw_m3 130 rfl) rfl
theorem q690 : (Jvm.Cond.soleField "StarTracker" "looked") ∈ lw_all := lw_g (lw_at lw_m3 131 rfl) rfl
theorem q691 : (Jvm.Cond.lays "StarTracker" "StarTracker" "matched" "I") ∈ lw_all := lw_g (lw_at lw_m3 132 rfl) rfl
theorem q692 : (Jvm.Cond.soleField "StarTracker" "matched") ∈ lw_all := lw_g (lw_at lw_m3 133 rfl) rfl
theorem q693 : (Jvm.Cond.lays "StarTracker" "StarTracker" "without" "I") ∈ lw_all := lw_g (lw_at lw_m3 134 rfl) rfl
theorem q694 : (Jvm.Cond.soleField "StarTracker" "without") ∈ lw_all := lw_g (lw_at lw_m3 135 rfl) rfl
theorem q695 : (Jvm.Cond.laysFinal "StarTracker" "StarTracker" "trio" "[I") ∈ lw_all := lw_g (lw_at lw_m3 136 rfl) rfl
theorem q696 : (Jvm.Cond.soleField "StarTracker" "trio") ∈ lw_all := lw_g (lw_at lw_m3 137 rfl) rfl
theorem q697 : (Jvm.Cond.laysFinal "StarTracker" "StarTracker" "takenStar" "[I") ∈ lw_all := lw_g (lw_at lw_m3 138 rfl) rfl
theorem q698 : (Jvm.Cond.soleField "StarTracker" "takenStar") ∈ lw_all := lw_g (lw_at lw_m3 139 rfl) rfl
theorem q699 : (Jvm.Cond.laysFinal "StarTracker" "StarTracker" "takenAs" "[I") ∈ lw_all := lw_g (lw_at lw_m3 140 rfl) rfl
theorem q700 : (Jvm.Cond.soleField "StarTracker" "takenAs") ∈ lw_all := lw_g (lw_at lw_m3 141 rfl) rfl
theorem q701 : (Jvm.Cond.laysFinal "StarTracker" "StarTracker" "takenSpot" "[I") ∈ lw_all := lw_g (lw_at lw_m3 142 rfl) rfl
theorem q702 : (Jvm.Cond.soleField "StarTracker" "takenSpot") ∈ lw_all := lw_g (lw_at lw_m3 143 rfl) rfl
theorem q703 : (Jvm.Cond.lays "StarTracker" "StarTracker" "pairs" "I") ∈ lw_all := lw_g (lw_at lw_m3 144 rfl) rfl
theorem q704 : (Jvm.Cond.soleField "StarTracker" "pairs") ∈ lw_all := lw_g (lw_at lw_m3 145 rfl) rfl
theorem q705 : (Jvm.Cond.laysFinal "StarTracker" "StarTracker" "starArms" "[[J") ∈ lw_all := lw_g (lw_at lw_m3 146 rfl) rfl
theorem q706 : (Jvm.Cond.soleField "StarTracker" "starArms") ∈ lw_all := lw_g (lw_at lw_m3 147 rfl) rfl
theorem q707 : (Jvm.Cond.laysFinal "StarTracker" "StarTracker" "spotArms" "[[J") ∈ lw_all := lw_g (lw_at lw_m3 148 rfl) rfl
theorem q708 : (Jvm.Cond.soleField "StarTracker" "spotArms") ∈ lw_all := lw_g (lw_at lw_m3 149 rfl) rfl
theorem q709 : (Jvm.Cond.lays "StarTracker" "StarTracker" "isTurn" "Z") ∈ lw_all := lw_g (lw_at lw_m3 150 rfl) rfl
theorem q710 : (Jvm.Cond.soleField "StarTracker" "isTurn") ∈ lw_all := lw_g (lw_at lw_m3 151 rfl) rfl
theorem q711 : (Jvm.Cond.laysFinal "StarTracker" "StarTracker" "places" "[[I") ∈ lw_all := lw_g (lw_at lw_m3 152 rfl) rfl
theorem q712 : (Jvm.Cond.soleField "StarTracker" "places") ∈ lw_all := lw_g (lw_at lw_m3 153 rfl) rfl
theorem q713 : (Jvm.Cond.laysFinal "StarTracker" "StarTracker" "byStar" "[I") ∈ lw_all := lw_g (lw_at lw_m3 154 rfl) rfl
theorem q714 : (Jvm.Cond.soleField "StarTracker" "byStar") ∈ lw_all := lw_g (lw_at lw_m3 155 rfl) rfl
theorem q715 : (Jvm.Cond.laysFinal "StarTracker" "StarTracker" "byFar" "[I") ∈ lw_all := lw_g (lw_at lw_m3 156 rfl) rfl
theorem q716 : (Jvm.Cond.soleField "StarTracker" "byFar") ∈ lw_all := lw_g (lw_at lw_m3 157 rfl) rfl
theorem q717 : (Jvm.Cond.laysFinal "StarTracker" "StarTracker" "one" "[J") ∈ lw_all := lw_g (lw_at lw_m3 158 rfl) rfl
theorem q718 : (Jvm.Cond.soleField "StarTracker" "one") ∈ lw_all := lw_g (lw_at lw_m3 159 rfl) rfl
theorem q719 : (Jvm.Cond.laysFinal "StarTracker" "StarTracker" "usedNow" "[I") ∈ lw_all := lw_g (lw_at lw_m3 160 rfl) rfl
theorem q720 : (Jvm.Cond.soleField "StarTracker" "usedNow") ∈ lw_all := lw_g (lw_at lw_m3 161 rfl) rfl
theorem q721 : (Jvm.Cond.laysFinal "StarTracker" "StarTracker" "trays" "[[LStarTracker$Body;") ∈ lw_all := lw_g (lw_at lw_m3 162 rfl) rfl
theorem q722 : (Jvm.Cond.soleField "StarTracker" "trays") ∈ lw_all := lw_g (lw_at lw_m3 163 rfl) rfl
theorem q723 : (Jvm.Cond.laysFinal "StarTracker" "StarTracker" "laidMany" "[I") ∈ lw_all := lw_g (lw_at lw_m3 164 rfl) rfl
theorem q724 : (Jvm.Cond.soleField "StarTracker" "laidMany") ∈ lw_all := lw_g (lw_at lw_m3 165 rfl) rfl
theorem q725 : (Jvm.Cond.laysFinal "StarTracker" "StarTracker" "sheets" "[LStarTracker$Sheet;") ∈ lw_all := lw_g (lw_at lw_m3 166 rfl) rfl
theorem q726 : (Jvm.Cond.soleField "StarTracker" "sheets") ∈ lw_all := lw_g (lw_at lw_m3 167 rfl) rfl
theorem q727 : (Jvm.Cond.lays "StarTracker" "StarTracker" "finding" "I") ∈ lw_all := lw_g (lw_at lw_m3 168 rfl) rfl
theorem q728 : (Jvm.Cond.soleField "StarTracker" "finding") ∈ lw_all := lw_g (lw_at lw_m3 169 rfl) rfl
theorem q729 : (Jvm.Cond.superclass "StarTracker" "java/lang/Object") ∈ lw_all := lw_g (lw_at lw_m3 170 rfl) rfl
theorem q731 : (Jvm.Cond.instanceMethod ({ cls := "StarTracker", name := "sheet", desc := "(III)I" } : Jvm.MethodName)) ∈ lw_all := lw_g (lw_at lw_m3 172 rfl) rfl
theorem q732 : (Jvm.Cond.selects "StarTracker" ({ cls := "StarTracker", name := "sheet", desc := "(III)I" } : Jvm.MethodName) ({ cls := "StarTracker", name := "sheet", desc := "(III)I" } : Jvm.MethodName)) ∈ lw_all := lw_g (lw_at lw_m3 173 rfl) rfl
theorem q733 : (Jvm.Cond.codeWith ({ cls := "StarTracker", name := "sheet", desc := "(III)I" } : Jvm.MethodName) prog_1_method_77_code (5 : Nat) (Option.some Jvm.ClassFile.FieldType.int) [((25 : Nat), (39 : Nat), (42 : Nat), (404 : Nat))]) ∈ lw_all := lw_g (lw_at lw_m3 174 rfl) rfl
theorem q734 : (Jvm.Cond.classLink "StarTracker" (404 : Nat) "java/lang/NegativeArraySizeException") ∈ lw_all := lw_g (lw_at lw_m3 175 rfl) rfl
theorem q748 : (Jvm.Cond.methodLink "StarTracker" (400 : Nat) ({ cls := "StarTracker", name := "rowOf", desc := "(II)Ljava/lang/Object;" } : Jvm.MethodName)) ∈ lw_all := lw_g (lw_at lw_m3 189 rfl) rfl
theorem q749 : (Jvm.Cond.static ({ cls := "StarTracker", name := "rowOf", desc := "(II)Ljava/lang/Object;" } : Jvm.MethodName)) ∈ lw_all := lw_g (lw_at lw_m3 190 rfl) rfl
theorem q750 : (Jvm.Cond.code ({ cls := "StarTracker", name := "rowOf", desc := "(II)Ljava/lang/Object;" } : Jvm.MethodName) prog_1_method_76_code (2 : Nat) (Option.some (Jvm.ClassFile.FieldType.object "java/lang/Object"))) ∈ lw_all := lw_g (lw_at lw_m3 191 rfl) rfl
theorem q753 : (Jvm.Cond.instanceMethod ({ cls := "StarTracker", name := "lose", desc := "(I)I" } : Jvm.MethodName)) ∈ lw_all := lw_g (lw_at lw_m3 194 rfl) rfl
theorem q754 : (Jvm.Cond.selects "StarTracker" ({ cls := "StarTracker", name := "lose", desc := "(I)I" } : Jvm.MethodName) ({ cls := "StarTracker", name := "lose", desc := "(I)I" } : Jvm.MethodName)) ∈ lw_all := lw_g (lw_at lw_m3 195 rfl) rfl
theorem q755 : (Jvm.Cond.code ({ cls := "StarTracker", name := "lose", desc := "(I)I" } : Jvm.MethodName) prog_1_method_78_code (3 : Nat) (Option.some Jvm.ClassFile.FieldType.int)) ∈ lw_all := lw_g (lw_at lw_m3 196 rfl) rfl
theorem q757 : (Jvm.Cond.instanceMethod ({ cls := "StarTracker", name := "lay", desc := "(IIII)I" } : Jvm.MethodName)) ∈ lw_all := lw_g (lw_at lw_m3 198 rfl) rfl
theorem q758 : (Jvm.Cond.selects "StarTracker" ({ cls := "StarTracker", name := "lay", desc := "(IIII)I" } : Jvm.MethodName) ({ cls := "StarTracker", name := "lay", desc := "(IIII)I" } : Jvm.MethodName)) ∈ lw_all := lw_g (lw_at lw_m3 199 rfl) rfl
theorem q759 : (Jvm.Cond.codeWith ({ cls := "StarTracker", name := "lay", desc := "(IIII)I" } : Jvm.MethodName) prog_1_method_81_code (6 : Nat) (Option.some Jvm.ClassFile.FieldType.int) [((19 : Nat), (36 : Nat), (37 : Nat), (418 : Nat)), ((19 : Nat), (36 : Nat), (45 : Nat), (420 : Nat)), ((19 : Nat), (36 : Nat), (53 : Nat), (422 : Nat))]) ∈ lw_all := lw_g (lw_at lw_m3 200 rfl) rfl
theorem q760 : (Jvm.Cond.classLink "StarTracker" (418 : Nat) "java/lang/NullPointerException") ∈ lw_all := lw_g (lw_at lw_m3 201 rfl) rfl
theorem q785 : (Jvm.Cond.classLink "StarTracker" (420 : Nat) "java/lang/ClassCastException") ∈ lw_all := lw_g (lw_at lw_m3 226 rfl) rfl
theorem q799 : (Jvm.Cond.classLink "StarTracker" (422 : Nat) "java/lang/ArrayIndexOutOfBoundsException") ∈ lw_all := lw_g (lw_at lw_m4 0 rfl) rfl
theorem q818 : (Jvm.Cond.methodLink "StarTracker" (414 : Nat) ({ cls := "StarTracker", name := "laid", desc := "(Ljava/lang/Object;III)V" } : Jvm.MethodName)) ∈ lw_all := lw_g (lw_at lw_m4 19 rfl) rfl
theorem q819 : (Jvm.Cond.static ({ cls := "StarTracker", name := "laid", desc := "(Ljava/lang/Object;III)V" } : Jvm.MethodName)) ∈ lw_all := lw_g (lw_at lw_m4 20 rfl) rfl
theorem q820 : (Jvm.Cond.code ({ cls := "StarTracker", name := "laid", desc := "(Ljava/lang/Object;III)V" } : Jvm.MethodName) prog_1_method_79_code (4 : Nat) (Option.none : Option Jvm.ClassFile.FieldType)) ∈ lw_all := lw_g (lw_at lw_m4 21 rfl) rfl
theorem q822 : (Jvm.Cond.instanceMethod ({ cls := "StarTracker", name := "get", desc := "(III)I" } : Jvm.MethodName)) ∈ lw_all := lw_g (lw_at lw_m4 23 rfl) rfl
theorem q823 : (Jvm.Cond.selects "StarTracker" ({ cls := "StarTracker", name := "get", desc := "(III)I" } : Jvm.MethodName) ({ cls := "StarTracker", name := "get", desc := "(III)I" } : Jvm.MethodName)) ∈ lw_all := lw_g (lw_at lw_m4 24 rfl) rfl
theorem q824 : (Jvm.Cond.codeWith ({ cls := "StarTracker", name := "get", desc := "(III)I" } : Jvm.MethodName) prog_1_method_82_code (6 : Nat) (Option.some Jvm.ClassFile.FieldType.int) [((22 : Nat), (36 : Nat), (37 : Nat), (418 : Nat)), ((22 : Nat), (36 : Nat), (45 : Nat), (420 : Nat)), ((22 : Nat), (36 : Nat), (53 : Nat), (422 : Nat))]) ∈ lw_all := lw_g (lw_at lw_m4 25 rfl) rfl
theorem q825 : (Jvm.Cond.methodLink "StarTracker" (424 : Nat) ({ cls := "StarTracker", name := "taken", desc := "(Ljava/lang/Object;II)I" } : Jvm.MethodName)) ∈ lw_all := lw_g (lw_at lw_m4 26 rfl) rfl
theorem q827 : (Jvm.Cond.instanceMethod ({ cls := "StarTracker", name := "copy", desc := "(IIIII)I" } : Jvm.MethodName)) ∈ lw_all := lw_g (lw_at lw_m4 28 rfl) rfl
theorem q828 : (Jvm.Cond.selects "StarTracker" ({ cls := "StarTracker", name := "copy", desc := "(IIIII)I" } : Jvm.MethodName) ({ cls := "StarTracker", name := "copy", desc := "(IIIII)I" } : Jvm.MethodName)) ∈ lw_all := lw_g (lw_at lw_m4 29 rfl) rfl
theorem q829 : (Jvm.Cond.codeWith ({ cls := "StarTracker", name := "copy", desc := "(IIIII)I" } : Jvm.MethodName) prog_1_method_83_code (9 : Nat) (Option.some Jvm.ClassFile.FieldType.int) [((68 : Nat), (87 : Nat), (88 : Nat), (418 : Nat)), ((68 : Nat), (87 : Nat), (96 : Nat), (434 : Nat))]) ∈ lw_all := lw_g (lw_at lw_m4 30 rfl) rfl
theorem q830 : (Jvm.Cond.classLink "StarTracker" (434 : Nat) "java/lang/IndexOutOfBoundsException") ∈ lw_all := lw_g (lw_at lw_m4 31 rfl) rfl
theorem q831 : (Jvm.Cond.methodLink "StarTracker" (428 : Nat) ({ cls := "java/lang/System", name := "arraycopy", desc := "(Ljava/lang/Object;ILjava/lang/Object;II)V" } : Jvm.MethodName)) ∈ lw_all := lw_g (lw_at lw_m4 32 rfl) rfl
theorem q835 : (Jvm.Cond.instanceMethod ({ cls := "StarTracker", name := "write", desc := "(I)I" } : Jvm.MethodName)) ∈ lw_all := lw_g (lw_at lw_m4 36 rfl) rfl
theorem q836 : (Jvm.Cond.selects "StarTracker" ({ cls := "StarTracker", name := "write", desc := "(I)I" } : Jvm.MethodName) ({ cls := "StarTracker", name := "write", desc := "(I)I" } : Jvm.MethodName)) ∈ lw_all := lw_g (lw_at lw_m4 37 rfl) rfl
theorem q837 : (Jvm.Cond.code ({ cls := "StarTracker", name := "write", desc := "(I)I" } : Jvm.MethodName) prog_1_method_84_code (5 : Nat) (Option.some Jvm.ClassFile.FieldType.int)) ∈ lw_all := lw_g (lw_at lw_m4 38 rfl) rfl
theorem q839 : (Jvm.Cond.instanceMethod ({ cls := "StarTracker", name := "count", desc := "(I)I" } : Jvm.MethodName)) ∈ lw_all := lw_g (lw_at lw_m4 40 rfl) rfl
theorem q840 : (Jvm.Cond.selects "StarTracker" ({ cls := "StarTracker", name := "count", desc := "(I)I" } : Jvm.MethodName) ({ cls := "StarTracker", name := "count", desc := "(I)I" } : Jvm.MethodName)) ∈ lw_all := lw_g (lw_at lw_m4 41 rfl) rfl
theorem q841 : (Jvm.Cond.code ({ cls := "StarTracker", name := "count", desc := "(I)I" } : Jvm.MethodName) prog_1_method_90_code (2 : Nat) (Option.some Jvm.ClassFile.FieldType.int)) ∈ lw_all := lw_g (lw_at lw_m4 42 rfl) rfl
theorem q842 : (Jvm.Cond.methodLink "StarTracker" (436 : Nat) ({ cls := "StarTracker", name := "pairsOf", desc := "()I" } : Jvm.MethodName)) ∈ lw_all := lw_g (lw_at lw_m4 43 rfl) rfl
theorem q843 : (Jvm.Cond.privateMethod ({ cls := "StarTracker", name := "pairsOf", desc := "()I" } : Jvm.MethodName)) ∈ lw_tbl := lw_at lw_m4 44 rfl
theorem q844 : (Jvm.Cond.instanceMethod ({ cls := "StarTracker", name := "pairsOf", desc := "()I" } : Jvm.MethodName)) ∈ lw_all := lw_g (lw_at lw_m4 45 rfl) rfl
theorem q845 : (Jvm.Cond.code ({ cls := "StarTracker", name := "pairsOf", desc := "()I" } : Jvm.MethodName) prog_1_method_85_code (1 : Nat) (Option.some Jvm.ClassFile.FieldType.int)) ∈ lw_all := lw_g (lw_at lw_m4 46 rfl) rfl
theorem q846 : (Jvm.Cond.methodLink "StarTracker" (439 : Nat) ({ cls := "StarTracker", name := "allConfirmed", desc := "()I" } : Jvm.MethodName)) ∈ lw_all := lw_g (lw_at lw_m4 47 rfl) rfl
theorem q847 : (Jvm.Cond.privateMethod ({ cls := "StarTracker", name := "allConfirmed", desc := "()I" } : Jvm.MethodName)) ∈ lw_tbl := lw_at lw_m4 48 rfl
theorem q848 : (Jvm.Cond.instanceMethod ({ cls := "StarTracker", name := "allConfirmed", desc := "()I" } : Jvm.MethodName)) ∈ lw_all := lw_g (lw_at lw_m4 49 rfl) rfl
theorem q849 : (Jvm.Cond.code ({ cls := "StarTracker", name := "allConfirmed", desc := "()I" } : Jvm.MethodName) prog_1_method_87_code (1 : Nat) (Option.some Jvm.ClassFile.FieldType.int)) ∈ lw_all := lw_g (lw_at lw_m4 50 rfl) rfl
theorem q850 : (Jvm.Cond.methodLink "StarTracker" (442 : Nat) ({ cls := "StarTracker", name := "allVotes", desc := "()I" } : Jvm.MethodName)) ∈ lw_all := lw_g (lw_at lw_m4 51 rfl) rfl
theorem q851 : (Jvm.Cond.privateMethod ({ cls := "StarTracker", name := "allVotes", desc := "()I" } : Jvm.MethodName)) ∈ lw_tbl := lw_at lw_m4 52 rfl
theorem q852 : (Jvm.Cond.instanceMethod ({ cls := "StarTracker", name := "allVotes", desc := "()I" } : Jvm.MethodName)) ∈ lw_all := lw_g (lw_at lw_m4 53 rfl) rfl
theorem q853 : (Jvm.Cond.code ({ cls := "StarTracker", name := "allVotes", desc := "()I" } : Jvm.MethodName) prog_1_method_86_code (1 : Nat) (Option.some Jvm.ClassFile.FieldType.int)) ∈ lw_all := lw_g (lw_at lw_m4 54 rfl) rfl
theorem q854 : (Jvm.Cond.methodLink "StarTracker" (445 : Nat) ({ cls := "StarTracker", name := "allLaid", desc := "()I" } : Jvm.MethodName)) ∈ lw_all := lw_g (lw_at lw_m4 55 rfl) rfl
theorem q855 : (Jvm.Cond.privateMethod ({ cls := "StarTracker", name := "allLaid", desc := "()I" } : Jvm.MethodName)) ∈ lw_tbl := lw_at lw_m4 56 rfl
theorem q856 : (Jvm.Cond.instanceMethod ({ cls := "StarTracker", name := "allLaid", desc := "()I" } : Jvm.MethodName)) ∈ lw_all := lw_g (lw_at lw_m4 57 rfl) rfl
theorem q857 : (Jvm.Cond.code ({ cls := "StarTracker", name := "allLaid", desc := "()I" } : Jvm.MethodName) prog_1_method_88_code (3 : Nat) (Option.some Jvm.ClassFile.FieldType.int)) ∈ lw_all := lw_g (lw_at lw_m4 58 rfl) rfl
theorem q858 : (Jvm.Cond.methodLink "StarTracker" (448 : Nat) ({ cls := "StarTracker", name := "ones", desc := "(I)I" } : Jvm.MethodName)) ∈ lw_all := lw_g (lw_at lw_m4 59 rfl) rfl
theorem q859 : (Jvm.Cond.static ({ cls := "StarTracker", name := "ones", desc := "(I)I" } : Jvm.MethodName)) ∈ lw_all := lw_g (lw_at lw_m4 60 rfl) rfl
theorem q860 : (Jvm.Cond.code ({ cls := "StarTracker", name := "ones", desc := "(I)I" } : Jvm.MethodName) prog_1_method_89_code (3 : Nat) (Option.some Jvm.ClassFile.FieldType.int)) ∈ lw_all := lw_g (lw_at lw_m4 61 rfl) rfl
theorem q862 : (Jvm.Cond.instanceMethod ({ cls := "StarTracker", name := "digest", desc := "()J" } : Jvm.MethodName)) ∈ lw_all := lw_g (lw_at lw_m4 63 rfl) rfl
theorem q863 : (Jvm.Cond.selects "StarTracker" ({ cls := "StarTracker", name := "digest", desc := "()J" } : Jvm.MethodName) ({ cls := "StarTracker", name := "digest", desc := "()J" } : Jvm.MethodName)) ∈ lw_all := lw_g (lw_at lw_m4 64 rfl) rfl
theorem q864 : (Jvm.Cond.code ({ cls := "StarTracker", name := "digest", desc := "()J" } : Jvm.MethodName) prog_1_method_93_code (6 : Nat) (Option.some Jvm.ClassFile.FieldType.long)) ∈ lw_all := lw_g (lw_at lw_m4 65 rfl) rfl
theorem q865 : (Jvm.Cond.constantLong "StarTracker" (459 : Nat) (17 : Int64)) ∈ lw_all := lw_g (lw_at lw_m4 66 rfl) rfl
theorem q866 : (Jvm.Cond.constantLong "StarTracker" (451 : Nat) (31 : Int64)) ∈ lw_all := lw_g (lw_at lw_m4 67 rfl) rfl
theorem q867 : (Jvm.Cond.methodLink "StarTracker" (461 : Nat) ({ cls := "StarTracker", name := "count", desc := "(I)I" } : Jvm.MethodName)) ∈ lw_all := lw_g (lw_at lw_m4 68 rfl) rfl
theorem q868 : (Jvm.Cond.methodLink "StarTracker" (464 : Nat) ({ cls := "StarTracker", name := "spotDigest", desc := "(JI)J" } : Jvm.MethodName)) ∈ lw_all := lw_g (lw_at lw_m4 69 rfl) rfl
theorem q869 : (Jvm.Cond.privateMethod ({ cls := "StarTracker", name := "spotDigest", desc := "(JI)J" } : Jvm.MethodName)) ∈ lw_tbl := lw_at lw_m4 70 rfl
theorem q870 : (Jvm.Cond.instanceMethod ({ cls := "StarTracker", name := "spotDigest", desc := "(JI)J" } : Jvm.MethodName)) ∈ lw_all := lw_g (lw_at lw_m4 71 rfl) rfl
theorem q871 : (Jvm.Cond.code ({ cls := "StarTracker", name := "spotDigest", desc := "(JI)J" } : Jvm.MethodName) prog_1_method_91_code (7 : Nat) (Option.some Jvm.ClassFile.FieldType.long)) ∈ lw_all := lw_g (lw_at lw_m4 72 rfl) rfl
theorem q872 : (Jvm.Cond.methodLink "StarTracker" (468 : Nat) ({ cls := "StarTracker", name := "starDigest", desc := "(JI)J" } : Jvm.MethodName)) ∈ lw_all := lw_g (lw_at lw_m4 73 rfl) rfl
theorem q873 : (Jvm.Cond.privateMethod ({ cls := "StarTracker", name := "starDigest", desc := "(JI)J" } : Jvm.MethodName)) ∈ lw_tbl := lw_at lw_m4 74 rfl
theorem q874 : (Jvm.Cond.instanceMethod ({ cls := "StarTracker", name := "starDigest", desc := "(JI)J" } : Jvm.MethodName)) ∈ lw_all := lw_g (lw_at lw_m4 75 rfl) rfl
theorem q875 : (Jvm.Cond.code ({ cls := "StarTracker", name := "starDigest", desc := "(JI)J" } : Jvm.MethodName) prog_1_method_92_code (7 : Nat) (Option.some Jvm.ClassFile.FieldType.long)) ∈ lw_all := lw_g (lw_at lw_m4 76 rfl) rfl
theorem q876 : (Jvm.Cond.methodLink "StarTracker" (453 : Nat) ({ cls := "StarTracker", name := "place", desc := "(II)I" } : Jvm.MethodName)) ∈ lw_all := lw_g (lw_at lw_m4 77 rfl) rfl
theorem q877 : (Jvm.Cond.methodLink "StarTracker" (456 : Nat) ({ cls := "StarTracker", name := "key", desc := "(IIIII)I" } : Jvm.MethodName)) ∈ lw_all := lw_g (lw_at lw_m4 78 rfl) rfl
theorem q878 : (Jvm.Cond.methodLink "StarTracker" (471 : Nat) ({ cls := "StarTracker", name := "turn", desc := "()I" } : Jvm.MethodName)) ∈ lw_all := lw_g (lw_at lw_m4 79 rfl) rfl
theorem q879 : (Jvm.Cond.methodLink "StarTracker" (474 : Nat) ({ cls := "StarTracker", name := "thing", desc := "(III)I" } : Jvm.MethodName)) ∈ lw_all := lw_g (lw_at lw_m4 80 rfl) rfl
theorem q880 : (Jvm.Cond.methodLink "StarTracker" (477 : Nat) ({ cls := "StarTracker", name := "share", desc := "(III)I" } : Jvm.MethodName)) ∈ lw_all := lw_g (lw_at lw_m4 81 rfl) rfl
theorem in_X0 : ∀ w ∈ wsX00, w ∈ lw_all := lw_in wsX00 [665, 667, 669, 671, 673, 675, 677, 679, 681, 683, 685, 687, 689, 691, 693, 695, 697, 699, 701, 703, 705, 707, 709, 711, 713, 715, 717, 719, 721, 723, 725, 727] (by decide +kernel) (by decide +kernel)
