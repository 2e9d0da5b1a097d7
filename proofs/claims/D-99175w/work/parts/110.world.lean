/-! FOUNDATION 2: the classes, the world, the judgement -/
def TK3 : u_T := fun k => match k with
  | 0 => ("RockingHorse$Less", "its", "LRockingHorse$Node;", true)
  | 1 => ("RockingHorse$Less", "this$0", "LRockingHorse;", true)
  | _ => ("RockingHorse$Node", "this$0", "LRockingHorse;", true)
def tyK3 : Nat → FieldType := fun k => match k with
  | 0 => .object "RockingHorse$Node"
  | 1 => .object "RockingHorse"
  | _ => .object "RockingHorse"
def TK4 : u_T := fun k => match k with
  | 0 => ("RockingHorse$Number", "v", "I", true)
  | 1 => ("RockingHorse$Number", "this$0", "LRockingHorse;", true)
  | _ => ("RockingHorse$Node", "this$0", "LRockingHorse;", true)
def tyK4 : Nat → FieldType := fun k => match k with
  | 0 => .int
  | 1 => .object "RockingHorse"
  | _ => .object "RockingHorse"
def TK5 : u_T := fun k => match k with
  | 0 => ("RockingHorse$Sign", "sign", "I", true)
  | 1 => ("RockingHorse$Sign", "this$0", "LRockingHorse;", true)
  | _ => ("RockingHorse$Node", "this$0", "LRockingHorse;", true)
def tyK5 : Nat → FieldType := fun k => match k with
  | 0 => .int
  | 1 => .object "RockingHorse"
  | _ => .object "RockingHorse"
def TK6 : u_T := fun k => match k with
  | 0 => ("RockingHorse$Act", "sign", "C", true)
  | 1 => ("RockingHorse$Act", "left", "LRockingHorse$Node;", true)
  | 2 => ("RockingHorse$Act", "right", "LRockingHorse$Node;", true)
  | 3 => ("RockingHorse$Act", "this$0", "LRockingHorse;", true)
  | _ => ("RockingHorse$Node", "this$0", "LRockingHorse;", true)
def tyK6 : Nat → FieldType := fun k => match k with
  | 0 => .char
  | 1 => .object "RockingHorse$Node"
  | 2 => .object "RockingHorse$Node"
  | 3 => .object "RockingHorse"
  | _ => .object "RockingHorse"
abbrev clsL : List vw_C := [(RX1, TX1, 53), (RX2, TX2, 6), (RX3, TX3, 51), (RX5, TK3, 3), (RX6, TK4, 3), (RX7, TK5, 3), (RX8, TK6, 5), (RJ9, fun _ => ("", "", "", false), 0)]
def cN (c : Nat) : Nat := match c with
  | 0 => 53
  | 1 => 6
  | 2 => 51
  | 3 => 3
  | 4 => 3
  | 5 => 3
  | 6 => 5
  | _ => 0
def tcL0 : List Nat := [1, 1, 1, 1, 1, 0, 0, 0, 0, 1, 0, 0, 0, 0, 1, 1, 1, 0, 1, 0, 0, 1, 1, 1, 1, 0, 1, 1, 0, 0, 1, 1, 1, 1, 0, 1, 1, 1, 1, 1, 1, 1, 0, 0, 0, 1, 1, 1, 0, 1, 1, 1, 0]
def tcL1 : List Nat := [1, 1, 0, 0, 0, 0]
def tcL2 : List Nat := [1, 0, 0, 0, 1, 1, 1, 1, 0, 1, 0, 0, 1, 0, 0, 0, 0, 1, 1, 1, 0, 2, 1, 1, 0, 1, 1, 0, 0, 1, 1, 1, 1, 1, 1, 1, 1, 1, 1, 0, 1, 1, 1, 1, 0, 0, 0, 0, 1, 1, 1]
def tcL3 : List Nat := [1, 1, 9]
def tcL4 : List Nat := [0, 1, 9]
def tcL5 : List Nat := [0, 1, 9]
def tcL6 : List Nat := [3, 1, 1, 1, 9]
def cT (c k : Nat) : Nat := match c with
  | 0 => tcL0.getD k 0
  | 1 => tcL1.getD k 0
  | 2 => tcL2.getD k 0
  | 3 => tcL3.getD k 0
  | 4 => tcL4.getD k 0
  | 5 => tcL5.getD k 0
  | 6 => tcL6.getD k 0
  | _ => 0
theorem in_K3 : ∀ w ∈ u_ws RX5 TK3 3, w ∈ lw_all := lw_in _ [500, 502, 504] (by decide +kernel) (by decide +kernel)
theorem tyK3_ok : ∀ k, k < 3 → parseFieldDescriptor (TK3 k).2.2.1 = some (tyK3 k) := by decide +kernel
theorem nmK3 : ∀ a, a < 3 → ∀ b, b < 3 → (a ≠ b ∧ cT 3 a ≠ 9 ∧ cT 3 b ≠ 9) → (TK3 a).2.1 ≠ (TK3 b).2.1 := by decide +kernel
theorem in_K4 : ∀ w ∈ u_ws RX6 TK4 3, w ∈ lw_all := lw_in _ [525, 527, 529] (by decide +kernel) (by decide +kernel)
theorem tyK4_ok : ∀ k, k < 3 → parseFieldDescriptor (TK4 k).2.2.1 = some (tyK4 k) := by decide +kernel
theorem nmK4 : ∀ a, a < 3 → ∀ b, b < 3 → (a ≠ b ∧ cT 4 a ≠ 9 ∧ cT 4 b ≠ 9) → (TK4 a).2.1 ≠ (TK4 b).2.1 := by decide +kernel
theorem in_K5 : ∀ w ∈ u_ws RX7 TK5 3, w ∈ lw_all := lw_in _ [540, 542, 544] (by decide +kernel) (by decide +kernel)
theorem tyK5_ok : ∀ k, k < 3 → parseFieldDescriptor (TK5 k).2.2.1 = some (tyK5 k) := by decide +kernel
theorem nmK5 : ∀ a, a < 3 → ∀ b, b < 3 → (a ≠ b ∧ cT 5 a ≠ 9 ∧ cT 5 b ≠ 9) → (TK5 a).2.1 ≠ (TK5 b).2.1 := by decide +kernel
theorem in_K6 : ∀ w ∈ u_ws RX8 TK6 5, w ∈ lw_all := lw_in _ [562, 564, 566, 568, 570] (by decide +kernel) (by decide +kernel)
theorem tyK6_ok : ∀ k, k < 5 → parseFieldDescriptor (TK6 k).2.2.1 = some (tyK6 k) := by decide +kernel
theorem nmK6 : ∀ a, a < 5 → ∀ b, b < 5 → (a ≠ b ∧ cT 6 a ≠ 9 ∧ cT 6 b ≠ 9) → (TK6 a).2.1 ≠ (TK6 b).2.1 := by decide +kernel
/-- a row of the classes' table -/
def CO (ci : Nat) (C : String) (T : u_T) (ty : Nat → FieldType) : Prop := clsL[ci]? = some (C, T, cN ci) ∧ ci < 100 ∧ (∀ w ∈ u_ws C T (cN ci), w ∈ lw_all) ∧ (∀ k, k < cN ci → parseFieldDescriptor (T k).2.2.1 = some (ty k)) ∧ (∀ a, a < cN ci → ∀ b, b < cN ci → a ≠ b → cT ci a ≠ 9 → cT ci b ≠ 9 → (T a).2.1 ≠ (T b).2.1) ∧ (∀ a, a < cN ci → ∀ b, b < cN ci → cT ci a = 9 → cT ci b = 9 → a = b)
theorem zc_0 : CO 0 RX1 TX1 tyX1 := ⟨rfl, by decide, in_X1, tyX1_ok, (fun a h b h2 n _ _ => nmX1 a h b h2 n), by decide +kernel⟩
theorem zc_1 : CO 1 RX2 TX2 tyX2 := ⟨rfl, by decide, in_X2, tyX2_ok, (fun a h b h2 n _ _ => nmX2 a h b h2 n), by decide +kernel⟩
theorem zc_2 : CO 2 RX3 TX3 tyX3 := ⟨rfl, by decide, in_X3, tyX3_ok, (fun a h b h2 n _ _ => nmX3 a h b h2 n), by decide +kernel⟩
theorem zc_3 : CO 3 RX5 TK3 tyK3 := ⟨rfl, by decide, in_K3, tyK3_ok, (fun a h b h2 n p q => nmK3 a h b h2 ⟨n, p, q⟩), by decide +kernel⟩
theorem zc_4 : CO 4 RX6 TK4 tyK4 := ⟨rfl, by decide, in_K4, tyK4_ok, (fun a h b h2 n p q => nmK4 a h b h2 ⟨n, p, q⟩), by decide +kernel⟩
theorem zc_5 : CO 5 RX7 TK5 tyK5 := ⟨rfl, by decide, in_K5, tyK5_ok, (fun a h b h2 n p q => nmK5 a h b h2 ⟨n, p, q⟩), by decide +kernel⟩
theorem zc_6 : CO 6 RX8 TK6 tyK6 := ⟨rfl, by decide, in_K6, tyK6_ok, (fun a h b h2 n p q => nmK6 a h b h2 ⟨n, p, q⟩), by decide +kernel⟩
/-- a field: its class's row, its place, its type's code (0 int, 1 reference, 2 boolean, 3 char), its name -/
def FO (ci k t : Nat) (C : String) (T : u_T) (ty : Nat → FieldType) (O nm ds : String) (fin : Bool) : Prop := CO ci C T ty ∧ k < cN ci ∧ cT ci k = t ∧ T k = (O, nm, ds, fin)
theorem fo_0_0 : FO 0 0 1 RX1 TX1 tyX1 "RockingHorse" "now" "LRockingHorse$Horse;" true := ⟨zc_0, by decide, rfl, rfl⟩
theorem fo_0_1 : FO 0 1 1 RX1 TX1 tyX1 "RockingHorse" "tried" "LRockingHorse$Horse;" true := ⟨zc_0, by decide, rfl, rfl⟩
theorem fo_0_2 : FO 0 2 1 RX1 TX1 tyX1 "RockingHorse" "most" "[I" true := ⟨zc_0, by decide, rfl, rfl⟩
theorem fo_0_3 : FO 0 3 1 RX1 TX1 tyX1 "RockingHorse" "width" "[I" true := ⟨zc_0, by decide, rfl, rfl⟩
theorem fo_0_4 : FO 0 4 1 RX1 TX1 tyX1 "RockingHorse" "can" "[I" true := ⟨zc_0, by decide, rfl, rfl⟩
theorem fo_0_5 : FO 0 5 0 RX1 TX1 tyX1 "RockingHorse" "riders" "I" false := ⟨zc_0, by decide, rfl, rfl⟩
theorem fo_0_6 : FO 0 6 0 RX1 TX1 tyX1 "RockingHorse" "hours" "I" false := ⟨zc_0, by decide, rfl, rfl⟩
theorem fo_0_7 : FO 0 7 0 RX1 TX1 tyX1 "RockingHorse" "beats" "I" false := ⟨zc_0, by decide, rfl, rfl⟩
theorem fo_0_8 : FO 0 8 0 RX1 TX1 tyX1 "RockingHorse" "changes" "I" false := ⟨zc_0, by decide, rfl, rfl⟩
theorem fo_0_9 : FO 0 9 1 RX1 TX1 tyX1 "RockingHorse" "text" "[I" true := ⟨zc_0, by decide, rfl, rfl⟩
theorem fo_0_10 : FO 0 10 0 RX1 TX1 tyX1 "RockingHorse" "signMany" "I" false := ⟨zc_0, by decide, rfl, rfl⟩
theorem fo_0_11 : FO 0 11 0 RX1 TX1 tyX1 "RockingHorse" "at" "I" false := ⟨zc_0, by decide, rfl, rfl⟩
theorem fo_0_12 : FO 0 12 0 RX1 TX1 tyX1 "RockingHorse" "end" "I" false := ⟨zc_0, by decide, rfl, rfl⟩
theorem fo_0_13 : FO 0 13 0 RX1 TX1 tyX1 "RockingHorse" "nest" "I" false := ⟨zc_0, by decide, rfl, rfl⟩
theorem fo_0_14 : FO 0 14 1 RX1 TX1 tyX1 "RockingHorse" "readMost" "[I" true := ⟨zc_0, by decide, rfl, rfl⟩
theorem fo_0_15 : FO 0 15 1 RX1 TX1 tyX1 "RockingHorse" "readWidth" "[I" true := ⟨zc_0, by decide, rfl, rfl⟩
theorem fo_0_16 : FO 0 16 1 RX1 TX1 tyX1 "RockingHorse" "readCan" "[I" true := ⟨zc_0, by decide, rfl, rfl⟩
theorem fo_0_17 : FO 0 17 0 RX1 TX1 tyX1 "RockingHorse" "readMany" "I" false := ⟨zc_0, by decide, rfl, rfl⟩
theorem fo_0_18 : FO 0 18 1 RX1 TX1 tyX1 "RockingHorse" "askedHorse" "LRockingHorse$Horse;" false := ⟨zc_0, by decide, rfl, rfl⟩
theorem fo_0_19 : FO 0 19 0 RX1 TX1 tyX1 "RockingHorse" "askedRider" "I" false := ⟨zc_0, by decide, rfl, rfl⟩
theorem fo_0_20 : FO 0 20 0 RX1 TX1 tyX1 "RockingHorse" "askedHour" "I" false := ⟨zc_0, by decide, rfl, rfl⟩
theorem fo_0_21 : FO 0 21 1 RX1 TX1 tyX1 "RockingHorse" "rule" "LRockingHorse$Node;" false := ⟨zc_0, by decide, rfl, rfl⟩
theorem fo_0_22 : FO 0 22 1 RX1 TX1 tyX1 "RockingHorse" "readRule" "LRockingHorse$Node;" false := ⟨zc_0, by decide, rfl, rfl⟩
theorem fo_0_23 : FO 0 23 1 RX1 TX1 tyX1 "RockingHorse" "undone" "[LRockingHorse$Horse;" true := ⟨zc_0, by decide, rfl, rfl⟩
theorem fo_0_24 : FO 0 24 1 RX1 TX1 tyX1 "RockingHorse" "wasAhead" "LRockingHorse$Horse;" true := ⟨zc_0, by decide, rfl, rfl⟩
theorem fo_0_25 : FO 0 25 0 RX1 TX1 tyX1 "RockingHorse" "undoMany" "I" false := ⟨zc_0, by decide, rfl, rfl⟩
theorem fo_0_26 : FO 0 26 1 RX1 TX1 tyX1 "RockingHorse" "rode" "[I" true := ⟨zc_0, by decide, rfl, rfl⟩
theorem fo_0_27 : FO 0 27 1 RX1 TX1 tyX1 "RockingHorse" "hardship" "[I" true := ⟨zc_0, by decide, rfl, rfl⟩
theorem fo_0_28 : FO 0 28 0 RX1 TX1 tyX1 "RockingHorse" "gapBits" "I" false := ⟨zc_0, by decide, rfl, rfl⟩
theorem fo_0_29 : FO 0 29 0 RX1 TX1 tyX1 "RockingHorse" "riddenBits" "I" false := ⟨zc_0, by decide, rfl, rfl⟩
theorem fo_0_30 : FO 0 30 1 RX1 TX1 tyX1 "RockingHorse" "readRota" "[I" true := ⟨zc_0, by decide, rfl, rfl⟩
theorem fo_0_31 : FO 0 31 1 RX1 TX1 tyX1 "RockingHorse" "actSign" "[I" true := ⟨zc_0, by decide, rfl, rfl⟩
theorem fo_0_32 : FO 0 32 1 RX1 TX1 tyX1 "RockingHorse" "actOne" "[I" true := ⟨zc_0, by decide, rfl, rfl⟩
theorem fo_0_33 : FO 0 33 1 RX1 TX1 tyX1 "RockingHorse" "actTwo" "[I" true := ⟨zc_0, by decide, rfl, rfl⟩
theorem fo_0_34 : FO 0 34 0 RX1 TX1 tyX1 "RockingHorse" "actMany" "I" false := ⟨zc_0, by decide, rfl, rfl⟩
theorem fo_0_35 : FO 0 35 1 RX1 TX1 tyX1 "RockingHorse" "may" "[I" true := ⟨zc_0, by decide, rfl, rfl⟩
theorem fo_0_36 : FO 0 36 1 RX1 TX1 tyX1 "RockingHorse" "wasMay" "[I" true := ⟨zc_0, by decide, rfl, rfl⟩
theorem fo_0_37 : FO 0 37 1 RX1 TX1 tyX1 "RockingHorse" "price" "[I" true := ⟨zc_0, by decide, rfl, rfl⟩
theorem fo_0_38 : FO 0 38 1 RX1 TX1 tyX1 "RockingHorse" "setPrice" "[I" true := ⟨zc_0, by decide, rfl, rfl⟩
theorem fo_0_39 : FO 0 39 1 RX1 TX1 tyX1 "RockingHorse" "least" "[I" true := ⟨zc_0, by decide, rfl, rfl⟩
theorem fo_0_40 : FO 0 40 1 RX1 TX1 tyX1 "RockingHorse" "turn" "[I" true := ⟨zc_0, by decide, rfl, rfl⟩
theorem fo_0_41 : FO 0 41 1 RX1 TX1 tyX1 "RockingHorse" "ways" "[J" true := ⟨zc_0, by decide, rfl, rfl⟩
theorem fo_0_42 : FO 0 42 0 RX1 TX1 tyX1 "RockingHorse" "limit" "I" false := ⟨zc_0, by decide, rfl, rfl⟩
theorem fo_0_43 : FO 0 43 0 RX1 TX1 tyX1 "RockingHorse" "smooth" "I" false := ⟨zc_0, by decide, rfl, rfl⟩
theorem fo_0_44 : FO 0 44 0 RX1 TX1 tyX1 "RockingHorse" "foundMany" "I" false := ⟨zc_0, by decide, rfl, rfl⟩
theorem fo_0_45 : FO 0 45 1 RX1 TX1 tyX1 "RockingHorse" "foundHour" "[I" true := ⟨zc_0, by decide, rfl, rfl⟩
theorem fo_0_46 : FO 0 46 1 RX1 TX1 tyX1 "RockingHorse" "foundRider" "[I" true := ⟨zc_0, by decide, rfl, rfl⟩
theorem fo_0_47 : FO 0 47 1 RX1 TX1 tyX1 "RockingHorse" "foundIs" "[I" true := ⟨zc_0, by decide, rfl, rfl⟩
theorem fo_0_48 : FO 0 48 0 RX1 TX1 tyX1 "RockingHorse" "random" "I" false := ⟨zc_0, by decide, rfl, rfl⟩
theorem fo_0_49 : FO 0 49 1 RX1 TX1 tyX1 "RockingHorse" "kept" "[LRockingHorse$Horse;" true := ⟨zc_0, by decide, rfl, rfl⟩
theorem fo_0_50 : FO 0 50 1 RX1 TX1 tyX1 "RockingHorse" "keptChanges" "[I" true := ⟨zc_0, by decide, rfl, rfl⟩
theorem fo_0_51 : FO 0 51 1 RX1 TX1 tyX1 "RockingHorse" "row" "[J" true := ⟨zc_0, by decide, rfl, rfl⟩
theorem fo_0_52 : FO 0 52 0 RX1 TX1 tyX1 "RockingHorse" "rowMany" "I" false := ⟨zc_0, by decide, rfl, rfl⟩
theorem fo_1_0 : FO 1 0 1 RX2 TX2 tyX2 "RockingHorse$Horse" "rota" "[I" true := ⟨zc_1, by decide, rfl, rfl⟩
theorem fo_1_1 : FO 1 1 1 RX2 TX2 tyX2 "RockingHorse$Horse" "tired" "[I" true := ⟨zc_1, by decide, rfl, rfl⟩
theorem fo_1_2 : FO 1 2 0 RX2 TX2 tyX2 "RockingHorse$Horse" "ill" "I" false := ⟨zc_1, by decide, rfl, rfl⟩
theorem fo_1_3 : FO 1 3 0 RX2 TX2 tyX2 "RockingHorse$Horse" "night" "I" false := ⟨zc_1, by decide, rfl, rfl⟩
theorem fo_1_4 : FO 1 4 0 RX2 TX2 tyX2 "RockingHorse$Horse" "gaps" "I" false := ⟨zc_1, by decide, rfl, rfl⟩
theorem fo_1_5 : FO 1 5 0 RX2 TX2 tyX2 "RockingHorse$Horse" "ridden" "I" false := ⟨zc_1, by decide, rfl, rfl⟩
theorem fo_2_0 : FO 2 0 1 RX3 TX3 tyX3 "RockingHorseModel" "now" "[I" true := ⟨zc_2, by decide, rfl, rfl⟩
theorem fo_2_1 : FO 2 1 0 RX3 TX3 tyX3 "RockingHorseModel" "hours" "I" false := ⟨zc_2, by decide, rfl, rfl⟩
theorem fo_2_2 : FO 2 2 0 RX3 TX3 tyX3 "RockingHorseModel" "beats" "I" false := ⟨zc_2, by decide, rfl, rfl⟩
theorem fo_2_3 : FO 2 3 0 RX3 TX3 tyX3 "RockingHorseModel" "men" "I" false := ⟨zc_2, by decide, rfl, rfl⟩
theorem fo_2_4 : FO 2 4 1 RX3 TX3 tyX3 "RockingHorseModel" "most" "[I" true := ⟨zc_2, by decide, rfl, rfl⟩
theorem fo_2_5 : FO 2 5 1 RX3 TX3 tyX3 "RockingHorseModel" "width" "[I" true := ⟨zc_2, by decide, rfl, rfl⟩
theorem fo_2_6 : FO 2 6 1 RX3 TX3 tyX3 "RockingHorseModel" "can" "[I" true := ⟨zc_2, by decide, rfl, rfl⟩
theorem fo_2_7 : FO 2 7 1 RX3 TX3 tyX3 "RockingHorseModel" "text" "[B" true := ⟨zc_2, by decide, rfl, rfl⟩
theorem fo_2_8 : FO 2 8 0 RX3 TX3 tyX3 "RockingHorseModel" "typed" "I" false := ⟨zc_2, by decide, rfl, rfl⟩
theorem fo_2_9 : FO 2 9 1 RX3 TX3 tyX3 "RockingHorseModel" "row" "[J" true := ⟨zc_2, by decide, rfl, rfl⟩
theorem fo_2_10 : FO 2 10 0 RX3 TX3 tyX3 "RockingHorseModel" "rowMany" "I" false := ⟨zc_2, by decide, rfl, rfl⟩
theorem fo_2_11 : FO 2 11 0 RX3 TX3 tyX3 "RockingHorseModel" "thrown" "I" false := ⟨zc_2, by decide, rfl, rfl⟩
theorem fo_2_12 : FO 2 12 1 RX3 TX3 tyX3 "RockingHorseModel" "read" "[B" false := ⟨zc_2, by decide, rfl, rfl⟩
theorem fo_2_13 : FO 2 13 0 RX3 TX3 tyX3 "RockingHorseModel" "length" "I" false := ⟨zc_2, by decide, rfl, rfl⟩
theorem fo_2_14 : FO 2 14 0 RX3 TX3 tyX3 "RockingHorseModel" "top" "I" false := ⟨zc_2, by decide, rfl, rfl⟩
theorem fo_2_15 : FO 2 15 0 RX3 TX3 tyX3 "RockingHorseModel" "at" "I" false := ⟨zc_2, by decide, rfl, rfl⟩
theorem fo_2_16 : FO 2 16 0 RX3 TX3 tyX3 "RockingHorseModel" "wrong" "I" false := ⟨zc_2, by decide, rfl, rfl⟩
theorem fo_2_17 : FO 2 17 1 RX3 TX3 tyX3 "RockingHorseModel" "comes" "[I" true := ⟨zc_2, by decide, rfl, rfl⟩
theorem fo_2_18 : FO 2 18 1 RX3 TX3 tyX3 "RockingHorseModel" "rule" "[B" false := ⟨zc_2, by decide, rfl, rfl⟩
theorem fo_2_19 : FO 2 19 1 RX3 TX3 tyX3 "RockingHorseModel" "otherRule" "[B" false := ⟨zc_2, by decide, rfl, rfl⟩
theorem fo_2_20 : FO 2 20 0 RX3 TX3 tyX3 "RockingHorseModel" "ruleSize" "I" false := ⟨zc_2, by decide, rfl, rfl⟩
theorem fo_2_21 : FO 2 21 2 RX3 TX3 tyX3 "RockingHorseModel" "isAsked" "Z" false := ⟨zc_2, by decide, rfl, rfl⟩
theorem fo_2_22 : FO 2 22 1 RX3 TX3 tyX3 "RockingHorseModel" "asked" "[I" true := ⟨zc_2, by decide, rfl, rfl⟩
theorem fo_2_23 : FO 2 23 1 RX3 TX3 tyX3 "RockingHorseModel" "undos" "[I" true := ⟨zc_2, by decide, rfl, rfl⟩
theorem fo_2_24 : FO 2 24 0 RX3 TX3 tyX3 "RockingHorseModel" "undoMany" "I" false := ⟨zc_2, by decide, rfl, rfl⟩
theorem fo_2_25 : FO 2 25 1 RX3 TX3 tyX3 "RockingHorseModel" "aside" "[I" true := ⟨zc_2, by decide, rfl, rfl⟩
theorem fo_2_26 : FO 2 26 1 RX3 TX3 tyX3 "RockingHorseModel" "then" "[I" true := ⟨zc_2, by decide, rfl, rfl⟩
theorem fo_2_27 : FO 2 27 0 RX3 TX3 tyX3 "RockingHorseModel" "gapBits" "I" false := ⟨zc_2, by decide, rfl, rfl⟩
theorem fo_2_28 : FO 2 28 0 RX3 TX3 tyX3 "RockingHorseModel" "rideBits" "I" false := ⟨zc_2, by decide, rfl, rfl⟩
theorem fo_2_29 : FO 2 29 1 RX3 TX3 tyX3 "RockingHorseModel" "rode" "[I" true := ⟨zc_2, by decide, rfl, rfl⟩
theorem fo_2_30 : FO 2 30 1 RX3 TX3 tyX3 "RockingHorseModel" "sore" "[I" true := ⟨zc_2, by decide, rfl, rfl⟩
theorem fo_2_31 : FO 2 31 1 RX3 TX3 tyX3 "RockingHorseModel" "acts" "[I" true := ⟨zc_2, by decide, rfl, rfl⟩
theorem fo_2_32 : FO 2 32 1 RX3 TX3 tyX3 "RockingHorseModel" "may" "[I" true := ⟨zc_2, by decide, rfl, rfl⟩
theorem fo_2_33 : FO 2 33 1 RX3 TX3 tyX3 "RockingHorseModel" "must" "[I" true := ⟨zc_2, by decide, rfl, rfl⟩
theorem fo_2_34 : FO 2 34 1 RX3 TX3 tyX3 "RockingHorseModel" "wasMay" "[I" true := ⟨zc_2, by decide, rfl, rfl⟩
theorem fo_2_35 : FO 2 35 1 RX3 TX3 tyX3 "RockingHorseModel" "wasMust" "[I" true := ⟨zc_2, by decide, rfl, rfl⟩
theorem fo_2_36 : FO 2 36 1 RX3 TX3 tyX3 "RockingHorseModel" "hardness" "[I" true := ⟨zc_2, by decide, rfl, rfl⟩
theorem fo_2_37 : FO 2 37 1 RX3 TX3 tyX3 "RockingHorseModel" "least" "[I" true := ⟨zc_2, by decide, rfl, rfl⟩
theorem fo_2_38 : FO 2 38 1 RX3 TX3 tyX3 "RockingHorseModel" "ways" "[I" true := ⟨zc_2, by decide, rfl, rfl⟩
theorem fo_2_39 : FO 2 39 0 RX3 TX3 tyX3 "RockingHorseModel" "bound" "I" false := ⟨zc_2, by decide, rfl, rfl⟩
theorem fo_2_40 : FO 2 40 1 RX3 TX3 tyX3 "RockingHorseModel" "line" "[I" true := ⟨zc_2, by decide, rfl, rfl⟩
theorem fo_2_41 : FO 2 41 1 RX3 TX3 tyX3 "RockingHorseModel" "canBe" "[Z" true := ⟨zc_2, by decide, rfl, rfl⟩
theorem fo_2_42 : FO 2 42 1 RX3 TX3 tyX3 "RockingHorseModel" "foundAt" "[I" true := ⟨zc_2, by decide, rfl, rfl⟩
theorem fo_2_43 : FO 2 43 1 RX3 TX3 tyX3 "RockingHorseModel" "foundWho" "[I" true := ⟨zc_2, by decide, rfl, rfl⟩
theorem fo_2_44 : FO 2 44 0 RX3 TX3 tyX3 "RockingHorseModel" "foundBits" "I" false := ⟨zc_2, by decide, rfl, rfl⟩
theorem fo_2_45 : FO 2 45 0 RX3 TX3 tyX3 "RockingHorseModel" "findings" "I" false := ⟨zc_2, by decide, rfl, rfl⟩
theorem fo_2_46 : FO 2 46 0 RX3 TX3 tyX3 "RockingHorseModel" "drawn" "I" false := ⟨zc_2, by decide, rfl, rfl⟩
theorem fo_2_47 : FO 2 47 0 RX3 TX3 tyX3 "RockingHorseModel" "came" "I" false := ⟨zc_2, by decide, rfl, rfl⟩
theorem fo_2_48 : FO 2 48 1 RX3 TX3 tyX3 "RockingHorseModel" "kept" "[I" true := ⟨zc_2, by decide, rfl, rfl⟩
theorem fo_2_49 : FO 2 49 1 RX3 TX3 tyX3 "RockingHorseModel" "isKept" "[Z" true := ⟨zc_2, by decide, rfl, rfl⟩
theorem fo_2_50 : FO 2 50 1 RX3 TX3 tyX3 "RockingHorseModel" "keptCame" "[I" true := ⟨zc_2, by decide, rfl, rfl⟩
theorem fo_3_0 : FO 3 0 1 RX5 TK3 tyK3 "RockingHorse$Less" "its" "LRockingHorse$Node;" true := ⟨zc_3, by decide, rfl, rfl⟩
theorem fo_3_1 : FO 3 1 1 RX5 TK3 tyK3 "RockingHorse$Less" "this$0" "LRockingHorse;" true := ⟨zc_3, by decide, rfl, rfl⟩
theorem fo_3_2 : FO 3 2 9 RX5 TK3 tyK3 "RockingHorse$Node" "this$0" "LRockingHorse;" true := ⟨zc_3, by decide, rfl, rfl⟩
theorem fo_4_0 : FO 4 0 0 RX6 TK4 tyK4 "RockingHorse$Number" "v" "I" true := ⟨zc_4, by decide, rfl, rfl⟩
theorem fo_4_1 : FO 4 1 1 RX6 TK4 tyK4 "RockingHorse$Number" "this$0" "LRockingHorse;" true := ⟨zc_4, by decide, rfl, rfl⟩
theorem fo_4_2 : FO 4 2 9 RX6 TK4 tyK4 "RockingHorse$Node" "this$0" "LRockingHorse;" true := ⟨zc_4, by decide, rfl, rfl⟩
theorem fo_5_0 : FO 5 0 0 RX7 TK5 tyK5 "RockingHorse$Sign" "sign" "I" true := ⟨zc_5, by decide, rfl, rfl⟩
theorem fo_5_1 : FO 5 1 1 RX7 TK5 tyK5 "RockingHorse$Sign" "this$0" "LRockingHorse;" true := ⟨zc_5, by decide, rfl, rfl⟩
theorem fo_5_2 : FO 5 2 9 RX7 TK5 tyK5 "RockingHorse$Node" "this$0" "LRockingHorse;" true := ⟨zc_5, by decide, rfl, rfl⟩
theorem fo_6_0 : FO 6 0 3 RX8 TK6 tyK6 "RockingHorse$Act" "sign" "C" true := ⟨zc_6, by decide, rfl, rfl⟩
theorem fo_6_1 : FO 6 1 1 RX8 TK6 tyK6 "RockingHorse$Act" "left" "LRockingHorse$Node;" true := ⟨zc_6, by decide, rfl, rfl⟩
theorem fo_6_2 : FO 6 2 1 RX8 TK6 tyK6 "RockingHorse$Act" "right" "LRockingHorse$Node;" true := ⟨zc_6, by decide, rfl, rfl⟩
theorem fo_6_3 : FO 6 3 1 RX8 TK6 tyK6 "RockingHorse$Act" "this$0" "LRockingHorse;" true := ⟨zc_6, by decide, rfl, rfl⟩
theorem fo_6_4 : FO 6 4 9 RX8 TK6 tyK6 "RockingHorse$Node" "this$0" "LRockingHorse;" true := ⟨zc_6, by decide, rfl, rfl⟩
def nwF : List (String × Nat × String × String × String × String) := [("RockingHorse", 314, "RockingHorse$Horse", "rota", "[I", "RockingHorse"), ("RockingHorse$Sign", 26, "RockingHorse$Horse", "tired", "[I", "RockingHorse"), ("RockingHorse", 197, "RockingHorse$Horse", "tired", "[I", "RockingHorse"), ("RockingHorse", 200, "RockingHorse$Horse", "ill", "I", "RockingHorse"), ("RockingHorse$Sign", 41, "RockingHorse$Horse", "night", "I", "RockingHorse"), ("RockingHorse", 334, "RockingHorse$Horse", "night", "I", "RockingHorse"), ("RockingHorse", 323, "RockingHorse$Horse", "gaps", "I", "RockingHorse"), ("RockingHorse", 331, "RockingHorse$Horse", "ridden", "I", "RockingHorse"), ("RockingHorse$Sign", 38, "RockingHorse", "most", "[I", "RockingHorse"), ("RockingHorse$Sign", 35, "RockingHorse", "width", "[I", "RockingHorse"), ("RockingHorse$Sign", 44, "RockingHorse", "can", "[I", "RockingHorse"), ("RockingHorse$Sign", 22, "RockingHorse", "askedHorse", "LRockingHorse$Horse;", "RockingHorse"), ("RockingHorse$Sign", 32, "RockingHorse", "askedRider", "I", "RockingHorse"), ("RockingHorse$Sign", 17, "RockingHorse", "askedHour", "I", "RockingHorse")]
def nwM : List (String × Nat × MethodName × String) := [("RockingHorse", 11, ⟨"RockingHorse$Horse", "<init>", "()V"⟩, "RockingHorse"), ("RockingHorse$Less", 7, ⟨"RockingHorse$Node", "<init>", "(LRockingHorse;)V"⟩, "RockingHorse"), ("RockingHorse$Number", 7, ⟨"RockingHorse$Node", "<init>", "(LRockingHorse;)V"⟩, "RockingHorse"), ("RockingHorse$Sign", 7, ⟨"RockingHorse$Node", "<init>", "(LRockingHorse;)V"⟩, "RockingHorse"), ("RockingHorse$Act", 7, ⟨"RockingHorse$Node", "<init>", "(LRockingHorse;)V"⟩, "RockingHorse")]
theorem nf_142 : ("RockingHorse", 314, "RockingHorse$Horse", "rota", "[I", "RockingHorse") ∈ nwF := List.mem_of_getElem? (i := 0) rfl
theorem nf_144 : ("RockingHorse$Sign", 26, "RockingHorse$Horse", "tired", "[I", "RockingHorse") ∈ nwF := List.mem_of_getElem? (i := 1) rfl
theorem nf_145 : ("RockingHorse", 197, "RockingHorse$Horse", "tired", "[I", "RockingHorse") ∈ nwF := List.mem_of_getElem? (i := 2) rfl
theorem nf_147 : ("RockingHorse", 200, "RockingHorse$Horse", "ill", "I", "RockingHorse") ∈ nwF := List.mem_of_getElem? (i := 3) rfl
theorem nf_149 : ("RockingHorse$Sign", 41, "RockingHorse$Horse", "night", "I", "RockingHorse") ∈ nwF := List.mem_of_getElem? (i := 4) rfl
theorem nf_150 : ("RockingHorse", 334, "RockingHorse$Horse", "night", "I", "RockingHorse") ∈ nwF := List.mem_of_getElem? (i := 5) rfl
theorem nf_152 : ("RockingHorse", 323, "RockingHorse$Horse", "gaps", "I", "RockingHorse") ∈ nwF := List.mem_of_getElem? (i := 6) rfl
theorem nf_154 : ("RockingHorse", 331, "RockingHorse$Horse", "ridden", "I", "RockingHorse") ∈ nwF := List.mem_of_getElem? (i := 7) rfl
theorem nf_174 : ("RockingHorse$Sign", 38, "RockingHorse", "most", "[I", "RockingHorse") ∈ nwF := List.mem_of_getElem? (i := 8) rfl
theorem nf_176 : ("RockingHorse$Sign", 35, "RockingHorse", "width", "[I", "RockingHorse") ∈ nwF := List.mem_of_getElem? (i := 9) rfl
theorem nf_178 : ("RockingHorse$Sign", 44, "RockingHorse", "can", "[I", "RockingHorse") ∈ nwF := List.mem_of_getElem? (i := 10) rfl
theorem nf_192 : ("RockingHorse$Sign", 22, "RockingHorse", "askedHorse", "LRockingHorse$Horse;", "RockingHorse") ∈ nwF := List.mem_of_getElem? (i := 11) rfl
theorem nf_194 : ("RockingHorse$Sign", 32, "RockingHorse", "askedRider", "I", "RockingHorse") ∈ nwF := List.mem_of_getElem? (i := 12) rfl
theorem nf_196 : ("RockingHorse$Sign", 17, "RockingHorse", "askedHour", "I", "RockingHorse") ∈ nwF := List.mem_of_getElem? (i := 13) rfl
theorem nm_137 : (("RockingHorse", 11, ⟨"RockingHorse$Horse", "<init>", "()V"⟩, "RockingHorse") : String × Nat × MethodName × String) ∈ nwM := List.mem_of_getElem? (i := 0) rfl
theorem nm_493 : (("RockingHorse$Less", 7, ⟨"RockingHorse$Node", "<init>", "(LRockingHorse;)V"⟩, "RockingHorse") : String × Nat × MethodName × String) ∈ nwM := List.mem_of_getElem? (i := 1) rfl
theorem nm_522 : (("RockingHorse$Number", 7, ⟨"RockingHorse$Node", "<init>", "(LRockingHorse;)V"⟩, "RockingHorse") : String × Nat × MethodName × String) ∈ nwM := List.mem_of_getElem? (i := 2) rfl
theorem nm_537 : (("RockingHorse$Sign", 7, ⟨"RockingHorse$Node", "<init>", "(LRockingHorse;)V"⟩, "RockingHorse") : String × Nat × MethodName × String) ∈ nwM := List.mem_of_getElem? (i := 3) rfl
theorem nm_557 : (("RockingHorse$Act", 7, ⟨"RockingHorse$Node", "<init>", "(LRockingHorse;)V"⟩, "RockingHorse") : String × Nat × MethodName × String) ∈ nwM := List.mem_of_getElem? (i := 4) rfl
theorem nft_142 : (Cond.fieldLinkNest "RockingHorse" 314 "RockingHorse$Horse" "rota" "[I" "RockingHorse") ∈ lw_tbl := q142
theorem nft_144 : (Cond.fieldLinkNest "RockingHorse$Sign" 26 "RockingHorse$Horse" "tired" "[I" "RockingHorse") ∈ lw_tbl := q144
theorem nft_145 : (Cond.fieldLinkNest "RockingHorse" 197 "RockingHorse$Horse" "tired" "[I" "RockingHorse") ∈ lw_tbl := q145
theorem nft_147 : (Cond.fieldLinkNest "RockingHorse" 200 "RockingHorse$Horse" "ill" "I" "RockingHorse") ∈ lw_tbl := q147
theorem nft_149 : (Cond.fieldLinkNest "RockingHorse$Sign" 41 "RockingHorse$Horse" "night" "I" "RockingHorse") ∈ lw_tbl := q149
theorem nft_150 : (Cond.fieldLinkNest "RockingHorse" 334 "RockingHorse$Horse" "night" "I" "RockingHorse") ∈ lw_tbl := q150
theorem nft_152 : (Cond.fieldLinkNest "RockingHorse" 323 "RockingHorse$Horse" "gaps" "I" "RockingHorse") ∈ lw_tbl := q152
theorem nft_154 : (Cond.fieldLinkNest "RockingHorse" 331 "RockingHorse$Horse" "ridden" "I" "RockingHorse") ∈ lw_tbl := q154
theorem nft_174 : (Cond.fieldLinkNest "RockingHorse$Sign" 38 "RockingHorse" "most" "[I" "RockingHorse") ∈ lw_tbl := q174
theorem nft_176 : (Cond.fieldLinkNest "RockingHorse$Sign" 35 "RockingHorse" "width" "[I" "RockingHorse") ∈ lw_tbl := q176
theorem nft_178 : (Cond.fieldLinkNest "RockingHorse$Sign" 44 "RockingHorse" "can" "[I" "RockingHorse") ∈ lw_tbl := q178
theorem nft_192 : (Cond.fieldLinkNest "RockingHorse$Sign" 22 "RockingHorse" "askedHorse" "LRockingHorse$Horse;" "RockingHorse") ∈ lw_tbl := q192
theorem nft_194 : (Cond.fieldLinkNest "RockingHorse$Sign" 32 "RockingHorse" "askedRider" "I" "RockingHorse") ∈ lw_tbl := q194
theorem nft_196 : (Cond.fieldLinkNest "RockingHorse$Sign" 17 "RockingHorse" "askedHour" "I" "RockingHorse") ∈ lw_tbl := q196
theorem nmt_137 : (Cond.methodLinkNest "RockingHorse" 11 ⟨"RockingHorse$Horse", "<init>", "()V"⟩ "RockingHorse") ∈ lw_tbl := q137
theorem nmt_493 : (Cond.methodLinkNest "RockingHorse$Less" 7 ⟨"RockingHorse$Node", "<init>", "(LRockingHorse;)V"⟩ "RockingHorse") ∈ lw_tbl := q493
theorem nmt_522 : (Cond.methodLinkNest "RockingHorse$Number" 7 ⟨"RockingHorse$Node", "<init>", "(LRockingHorse;)V"⟩ "RockingHorse") ∈ lw_tbl := q522
theorem nmt_537 : (Cond.methodLinkNest "RockingHorse$Sign" 7 ⟨"RockingHorse$Node", "<init>", "(LRockingHorse;)V"⟩ "RockingHorse") ∈ lw_tbl := q537
theorem nmt_557 : (Cond.methodLinkNest "RockingHorse$Act" 7 ⟨"RockingHorse$Node", "<init>", "(LRockingHorse;)V"⟩ "RockingHorse") ∈ lw_tbl := q557
def strIx : List Nat := [175, 180, 182, 226, 235, 237, 239, 370]
def strTx : List String := ["1234", "123456789", "abcdefgh", "htwminc", "<>=", "+-", "*/", "nigx"]
def strLen : List Nat := [4, 9, 8, 7, 3, 2, 2, 4]
def strByt : List (List Int32) := [[49, 50, 51, 52], [49, 50, 51, 52, 53, 54, 55, 56, 57], [97, 98, 99, 100, 101, 102, 103, 104], [104, 116, 119, 109, 105, 110, 99], [60, 62, 61], [43, 45], [42, 47], [110, 105, 103, 120]]
def fldv (Y : Yx) (σ : Hp) (a j t : Nat) (w : Value) : Value := if t = 1 then va_rf (rz Y (hr σ a j)) else if t = 9 then w else .int (hi σ a j)
def flds (Y : Yx) (σ : Hp) (c a : Nat) (w : Value) : List Value := (List.range (cN c)).map (fun j => fldv Y σ a j (cT c j) w)
def cellK (Y : Yx) (σ : Hp) (a k n : Nat) (w : Value) : va_E :=
  if k = 100 then .inl (Y.2.2.2 0, n, .inl (hi σ a))
  else if k = 101 then .inl (Y.2.2.2 1, n, .inl (hi σ a))
  else if k = 102 then .inl (Y.2.2.2 2, n, .inl (hi σ a))
  else if k = 103 then .inl (Y.2.2.2 3, n, .inr (.inl (hl σ a)))
  else if k = 104 then .inl (Y.2.2.2 4, n, .inr (.inr (.inr (.inr (fun j => rz Y (hr σ a j))))))
  else .inr (k, flds Y σ k a w)
def cellE (Y : Yx) (σ : Hp) (a : Nat) (w : Value) : va_E := cellK Y σ a (hk σ a).1 (hk σ a).2 w
def Wd (Y : Yx) (σ : Hp) (H : Heap) : Prop := H.size = Y.1 + hn σ ∧ ∀ a, a < hn σ → ∃ w, va_at Y.2.1 clsL (Y.1 + a, cellE Y σ a w) H
abbrev tysL (Y : Yx) : List (ClassId × FieldType) := [(Y.2.2.2 0, .int), (Y.2.2.2 1, .byte), (Y.2.2.2 2, .boolean), (Y.2.2.2 3, .long), (Y.2.2.2 4, .object RX2)]
def nwD : List MethodName := [⟨"RockingHorse$Node", "value", "()I"⟩, ⟨"java/lang/RuntimeException", "<init>", "()V"⟩, ⟨"java/lang/Exception", "<init>", "()V"⟩, ⟨"java/lang/Throwable", "<init>", "()V"⟩]
/-- what holds beside the heap: the tables' words of private members, String constants -/
def Ext (Y : Yx) (U : State) : Prop := va_K Y.2.1 clsL (tysL Y) U ∧ (∀ w ∈ nwF, va_Nw (.fieldLinkNest w.1 w.2.1 w.2.2.1 w.2.2.2.1 w.2.2.2.2.1 w.2.2.2.2.2) U) ∧ (∀ w ∈ nwM, va_Nw (.methodLinkNest w.1 w.2.1 w.2.2.1 w.2.2.2) U) ∧ va_AO RX2 U ∧ (∀ w ∈ nwD, va_Nw (.declares w) U) ∧
  vk_S 8 strLen strByt Y.2.2.1 (fun k => Y.2.2.1 (8 + k)) (fun q => Y.1 ≤ q) U U.heap ∧ (∀ k, k < 8 → vk_R "RockingHorse" (strIx.getD k 0) (strTx.getD k "") (Y.2.2.1 k) U) ∧ va_Z "java/lang/String" "COMPACT_STRINGS" "Z" (.int 1) (fun q => Y.1 ≤ q) U U.heap ∧ va_Nw (.castable "java/util/NoSuchElementException" "java/util/NoSuchElementException") U ∧ vx_Zq Bundle.tN "UNASSIGNED_STACK" Bundle.steD (fun q => Y.1 ≤ q) U U.heap ∧ vx_Zq Bundle.tN "SUPPRESSED_SENTINEL" Bundle.listD (fun q => Y.1 ≤ q) U U.heap
def WS (Y : Yx) (σ : Hp) (U : State) : Prop := Wd Y σ U.heap ∧ Ext Y U
theorem Ext.moved {Y : Yx} {s U : State} {H : Heap} {locs : List Loc} (h : Ext Y s) (hS : va_S (fun q => Y.1 ≤ q) s.heap H locs) (hH : U.heap = H) (hW : s.WarmedH U.vm) : Ext Y U := by
  obtain ⟨h1, h2, h3, h4, h5, h6, h7, h8, h9, h10, h11⟩ := h
  refine ⟨va_K.moved hW.alike h1, fun w hw => (h2 w hw).warmF hW, fun w hw => (h3 w hw).warmM hW, h4.moved hW.alike, fun w hw => (h5 w hw).warmD hW, ?_, fun k hk => (h7 k hk).warm hW, ?_, h9.warmC hW, ?_, ?_⟩
  · rw [hH]
    exact (vk_S.moved hW.alike h6).kept (fun a h1 h2 => hS.2.1 a h1 h2)
  · rw [hH]
    exact (va_Z.moved hW.alike h8).kept (fun a h1 h2 => hS.2.1 a h1 h2)
  · rw [hH]
    exact (vx_Zq.moved hW.alike h10).kept (fun a h1 h2 => hS.2.1 a h1 h2)
  · rw [hH]
    exact (vx_Zq.moved hW.alike h11).kept (fun a h1 h2 => hS.2.1 a h1 h2)
theorem Ext.same {Y : Yx} {u U : State} (h : Ext Y u) (hH : U.heap = u.heap) (hv : U.vm = u.vm) : Ext Y U := by
  obtain ⟨h1, h2, h3, h4, h5, h6, h7, h8, h9, h10, h11⟩ := h
  have hA : u.vm.Alike U.vm := by rw [hv]; exact Vm.Alike.refl _
  refine ⟨va_K.moved hA h1, fun w hw => (h2 w hw).same rfl hv.symm, fun w hw => (h3 w hw).same rfl hv.symm, h4.moved hA, fun w hw => (h5 w hw).same rfl hv.symm, ?_, fun k hk => (h7 k hk).same hv, ?_, h9.same rfl hv.symm, ?_, ?_⟩
  · rw [hH]
    exact vk_S.moved hA h6
  · rw [hH]
    exact va_Z.moved hA h8
  · rw [hH]
    exact vx_Zq.moved hA h10
  · rw [hH]
    exact vx_Zq.moved hA h11
/-! the machine's fixed things, in one word -/
abbrev Mx : Type := Program × Launch × Env × Room × State × MethodId × Array Value × List Frame × Method × Code × Yx × Hp
def xp (X : Mx) : Program := X.1
def xl (X : Mx) : Launch := X.2.1
def xe (X : Mx) : Env := X.2.2.1
def xR (X : Mx) : Room := X.2.2.2.1
def xs (X : Mx) : State := X.2.2.2.2.1
def xm (X : Mx) : MethodId := X.2.2.2.2.2.1
def xa (X : Mx) : Array Value := X.2.2.2.2.2.2.1
def xb (X : Mx) : List Frame := X.2.2.2.2.2.2.2.1
def xt (X : Mx) : Method := X.2.2.2.2.2.2.2.2.1
def xc (X : Mx) : Code := X.2.2.2.2.2.2.2.2.2.1
def xY (X : Mx) : Yx := X.2.2.2.2.2.2.2.2.2.2.1
def x0 (X : Mx) : Hp := X.2.2.2.2.2.2.2.2.2.2.2
abbrev xA (X : Mx) : Nat → Prop := fun q => (xY X).1 ≤ q
/-- a method: code, locals, class, frames below it, answer's type, name -/
abbrev Mi : Type := ByteArray × Nat × String × Nat × Option FieldType × String
def OkX (X : Mx) (M : Mi) : Prop :=
  (xp X).tables.exec = Jvm.exec ∧ (xc X).code = M.1 ∧ (xc X).maxLocals = M.2.1 ∧ (xs X).vm.findClass M.2.2.1 = some (xm X).cls ∧ (∀ w ∈ lw_all, w.before (xa X) (xs X) = true) ∧ Ext (xY X) (xs X) ∧ (xs X).heap.size = (xY X).1 + hn (x0 X) ∧ M.2.2.2.1 ≤ (xR X).frames ∧ 64 * M.2.2.2.1 ≤ (xR X).locals ∧ (xt X).locks = false ∧ (xt X).sig.returnType = M.2.2.2.2.1 ∧ (xt X).name = M.2.2.2.2.2 ∧ (xl X).flags = flags0
/-- the machine at pc, its locals env, its stack st, its heap σ, does what the computation o says -/
def GG {β : Type} (X : Mx) (M : Mi) (Q : β → Hp → State → Prop) (pc : Nat) (env : List (Nat × LV)) (st : List LV) (σ : Hp) (o : Option (β × Hp)) : Prop :=
  ∀ (r : β) (σf : Hp), o = some (r, σf) → Le σ σf ∧ (OkX X M → ∀ (ls : Array Slot) (H : Heap) (locs : List Loc), Le (x0 X) σ → hn σf ≤ hn (x0 X) + (xR X).cells → hu σf ≤ hu (x0 X) + (xR X).slots → lv_has ls M.2.1 (env.map (cve (xY X))) → Wd (xY X) σ H → va_S (xA X) (xs X).heap H locs →
    W (xp X) (xl X) (xe X) (xR X) (xs X) (xm X) (xa X) (xb X) (xt X) (xc X) H locs (hn σ - hn (x0 X)) (hu σ - hu (x0 X)) (Q r σf) (F0 (xm X) pc ls (st.map (cv (xY X)))))
section ok
variable {X : Mx} {M : Mi}
theorem OkX.ex (h : OkX X M) : (xp X).tables.exec = Jvm.exec := h.1
theorem OkX.co (h : OkX X M) : (xc X).code = M.1 := h.2.1
theorem OkX.ml (h : OkX X M) : (xc X).maxLocals = M.2.1 := h.2.2.1
theorem OkX.ow (h : OkX X M) : (xs X).vm.findClass M.2.2.1 = some (xm X).cls := h.2.2.2.1
theorem OkX.ts (h : OkX X M) : ∀ w ∈ lw_all, w.before (xa X) (xs X) = true := h.2.2.2.2.1
theorem OkX.ext (h : OkX X M) : Ext (xY X) (xs X) := h.2.2.2.2.2.1
theorem OkX.sz (h : OkX X M) : (xs X).heap.size = (xY X).1 + hn (x0 X) := h.2.2.2.2.2.2.1
theorem OkX.frm (h : OkX X M) : M.2.2.2.1 ≤ (xR X).frames := h.2.2.2.2.2.2.2.1
theorem OkX.lo (h : OkX X M) : 64 * M.2.2.2.1 ≤ (xR X).locals := h.2.2.2.2.2.2.2.2.1
theorem OkX.lk (h : OkX X M) : (xt X).locks = false := h.2.2.2.2.2.2.2.2.2.1
theorem OkX.rt (h : OkX X M) : (xt X).sig.returnType = M.2.2.2.2.1 := h.2.2.2.2.2.2.2.2.2.2.1
theorem OkX.nm (h : OkX X M) : (xt X).name = M.2.2.2.2.2 := h.2.2.2.2.2.2.2.2.2.2.2.1
theorem OkX.fl (h : OkX X M) : (xl X).flags = flags0 := h.2.2.2.2.2.2.2.2.2.2.2.2
theorem OkX.K (h : OkX X M) : va_K (xY X).2.1 clsL (tysL (xY X)) (xs X) := h.ext.1
end ok
theorem Wd.P {Y : Yx} {σ : Hp} {H : Heap} (h : Wd Y σ H) {a : Nat} (ha : a < hn σ) : ∃ w, ∀ e, cellE Y σ a w = e → va_P Y.2.1 clsL [(Y.1 + a, e)] H := by
  obtain ⟨w, hw⟩ := h.2 a ha
  refine ⟨w, fun e he k q hk => ?_⟩
  match k, hk with
  | 0, hk =>
    cases hk
    rw [← he]
    exact hw
  | k + 1, hk => simp at hk
theorem Wd.set {Y : Yx} {σ τ : Hp} {H H1 : Heap} {a : Nat} (h : Wd Y σ H) (hn' : hn τ = hn σ) (ho : ∀ b, b ≠ a → ∀ w, cellE Y τ b w = cellE Y σ b w) (ha : ∃ w, va_at Y.2.1 clsL (Y.1 + a, cellE Y τ a w) H1) (hz : H1.size = H.size) (hq : ∀ q, q ≠ Y.1 + a → H1[q]? = H[q]?) : Wd Y τ H1 := by
  refine ⟨by rw [hz, hn']; exact h.1, fun b hb => ?_⟩
  by_cases hba : b = a
  · subst hba
    exact ha
  · obtain ⟨w, hw⟩ := h.2 b (by rw [← hn']; exact hb)
    refine ⟨w, ?_⟩
    rw [ho b hba]
    refine hw.kept (hq _ ?_)
    show Y.1 + b ≠ Y.1 + a
    omega
theorem up2_row {α : Type} (f : Nat → Nat → α) (a i : Nat) (v : α) {b : Nat} (h : b ≠ a) : up2 f a i v b = f b := by
  funext j
  simp [up2, h]
theorem up2_self {α : Type} (f : Nat → Nat → α) (a i : Nat) (v : α) (j : Nat) : up2 f a i v a j = if j = i then v else f a j := by
  simp [up2]
theorem cellE_eq {Y : Yx} {σ τ : Hp} {b : Nat} (h0 : hk τ b = hk σ b) (h1 : hi τ b = hi σ b) (h2 : hl τ b = hl σ b) (h3 : hr τ b = hr σ b) (w : Value) : cellE Y τ b w = cellE Y σ b w := by
  unfold cellE cellK flds fldv
  rw [h0, h1, h2, h3]
theorem cellE_wI {Y : Yx} {σ : Hp} {a i b : Nat} {v : Int32} (h : b ≠ a) (w : Value) : cellE Y (wI σ a i v) b w = cellE Y σ b w := cellE_eq (σ := σ) (τ := wI σ a i v) (b := b) rfl (up2_row _ _ _ _ h) rfl rfl w
theorem cellE_wL {Y : Yx} {σ : Hp} {a i b : Nat} {v : Int64} (h : b ≠ a) (w : Value) : cellE Y (wL σ a i v) b w = cellE Y σ b w := cellE_eq (σ := σ) (τ := wL σ a i v) (b := b) rfl rfl (up2_row _ _ _ _ h) rfl w
theorem cellE_wR {Y : Yx} {σ : Hp} {a i b : Nat} {v : Option Nat} (h : b ≠ a) (w : Value) : cellE Y (wR σ a i v) b w = cellE Y σ b w := cellE_eq (σ := σ) (τ := wR σ a i v) (b := b) rfl rfl rfl (up2_row _ _ _ _ h) w
theorem cellE_o {Y : Yx} {σ : Hp} {a c : Nat} (h : (hk σ a).1 = c) (hc : c < 100) {w : Value} : cellE Y σ a w = .inr (c, flds Y σ c a w) := by
  unfold cellE cellK
  rw [h, if_neg (by omega), if_neg (by omega), if_neg (by omega), if_neg (by omega), if_neg (by omega)]
theorem flds_len (Y : Yx) (σ : Hp) (c a : Nat) (w : Value) : (flds Y σ c a w).length = cN c := by simp [flds]
theorem flds_at {Y : Yx} {σ : Hp} {c a k : Nat} {w : Value} (h : k < cN c) : (flds Y σ c a w)[k]? = some (fldv Y σ a k (cT c k) w) := by
  simp [flds, h]
theorem flds_set {Y : Yx} {σ τ : Hp} {c a k : Nat} {v w : Value} (hv : fldv Y τ a k (cT c k) w = v) (ho : ∀ j, j ≠ k → fldv Y τ a j (cT c j) w = fldv Y σ a j (cT c j) w) : (flds Y σ c a w).set k v = flds Y τ c a w := by
  apply List.ext_getElem?
  intro j
  by_cases hj : j < cN c
  · by_cases hjk : j = k
    · subst hjk
      rw [List.getElem?_set_self (by rw [flds_len]; exact hj), flds_at hj, hv]
    · rw [List.getElem?_set_ne (Ne.symm hjk), flds_at hj, flds_at hj, ho j hjk]
  · rw [List.getElem?_eq_none (by rw [List.length_set, flds_len]; omega), List.getElem?_eq_none (by rw [flds_len]; omega)]
theorem hS_put {Y : Yx} {H0 H H1 : Heap} {locs : List Loc} {a i : Nat} (h : va_S (fun q => Y.1 ≤ q) H0 H locs) (hz : H1.size = H.size) (hq : ∀ q, q ≠ Y.1 + a → H1[q]? = H[q]?) : va_S (fun q => Y.1 ≤ q) H0 H1 (locs ++ [⟨Y.1 + a, i⟩]) :=
  h.put hz hq (Nat.le_add_right _ _)
