/-! THE WORLD AS A FUNCTION: cells by address (class number or 100 + array number, length, contents); the judgement wp over it; its rows out of the kit's -/
abbrev Cel : Type := Nat × Nat × (Nat → Value)
/-- how many cells there are; how many slots were made; the cells -/
abbrev Hp : Type := Nat × Nat × (Nat → Option Cel)
/-- the launch; the state at the law's entry; class numbers; slots; array classes; the constant cells; where the texts are -/
abbrev Cx : Type := Launch × State × (Nat → ClassId) × (Nat → Nat → Nat) × (Nat → ClassId) × (Nat → Option Cel) × (Nat → Nat)
abbrev cL (Δ : Cx) : Launch := Δ.1
abbrev cS (Δ : Cx) : State := Δ.2.1
abbrev cC (Δ : Cx) : Nat → ClassId := Δ.2.2.1
abbrev cI (Δ : Cx) : Nat → Nat → Nat := Δ.2.2.2.1
abbrev cA (Δ : Cx) : Nat → ClassId := Δ.2.2.2.2.1
abbrev cK (Δ : Cx) : Nat → Option Cel := Δ.2.2.2.2.2.1
abbrev cT (Δ : Cx) : Nat → Nat := Δ.2.2.2.2.2.2
def n0 (Δ : Cx) : Nat := (cS Δ).heap.size

def clz : List vw_C := [(RX1, TX1, 19), (RX2, TX2, 43), (RX3, TX3, 5), (RX4, TX4, 3), (RX5, TX5, 12), (RX6, TX6, 4), (RX7, TX7, 3), (RX8, TX8, 4), (RX9, TX9, 4), (RX10, TX10, 4), (RX11, TX11, 4), (RX12, TX12, 5), (RX13, TX13, 3), (RX14, TX14, 5), (RJ2, TJ2, 3), (RJ4, TJ4, 4), (RJ5, TJ5, 4), (RJ16, TJ16, 6)]
def tyA (t : Nat) : FieldType := match t with
  | 0 => .int
  | 1 => .long
  | 2 => .byte
  | _ => .object "java/lang/Object"
/-- what the tables say of a field: class number, place; where it is declared, its name, descriptor, whether it is final, its type -/
def fOk (tag k : Nat) (ref nm ds : String) (fin : Bool) (ty : FieldType) : Prop :=
  ∃ (C : String) (T : u_T) (N : Nat) (ty0 : Nat → FieldType), clz[tag]? = some (C, T, N) ∧ k < N ∧ (∀ w ∈ u_ws C T N, w ∈ lw_all) ∧ (∀ k, k < N → parseFieldDescriptor (T k).2.2.1 = some (ty0 k)) ∧ (∀ a, a < N → ∀ b, b < N → a ≠ b → (T a).2.1 ≠ (T b).2.1) ∧ T k = (ref, nm, ds, fin) ∧ ty0 k = ty
/-- a class: its number, name, how many fields -/
def kOk (tag : Nat) (C : String) (N : Nat) (ty0 : Nat → FieldType) : Prop :=
  ∃ T : u_T, clz[tag]? = some (C, T, N) ∧ (∀ w ∈ u_ws C T N, w ∈ lw_all) ∧ (∀ k, k < N → parseFieldDescriptor (T k).2.2.1 = some (ty0 k))

theorem k_0 : kOk 0 RX1 19 tyX1 := ⟨TX1, rfl, in_X1, tyX1_ok⟩
theorem f_0_0 : fOk 0 0 "RoofRegatta" "tape" "[B" true (.array .byte) := ⟨RX1, TX1, 19, tyX1, rfl, by decide, in_X1, tyX1_ok, nmX1, rfl, rfl⟩
theorem f_0_1 : fOk 0 1 "RoofRegatta" "taped" "I" false (.int) := ⟨RX1, TX1, 19, tyX1, rfl, by decide, in_X1, tyX1_ok, nmX1, rfl, rfl⟩
theorem f_0_2 : fOk 0 2 "RoofRegatta" "fault" "I" false (.int) := ⟨RX1, TX1, 19, tyX1, rfl, by decide, in_X1, tyX1_ok, nmX1, rfl, rfl⟩
theorem f_0_3 : fOk 0 3 "RoofRegatta" "where" "I" false (.int) := ⟨RX1, TX1, 19, tyX1, rfl, by decide, in_X1, tyX1_ok, nmX1, rfl, rfl⟩
theorem f_0_4 : fOk 0 4 "RoofRegatta" "trouble" "I" false (.int) := ⟨RX1, TX1, 19, tyX1, rfl, by decide, in_X1, tyX1_ok, nmX1, rfl, rfl⟩
theorem f_0_5 : fOk 0 5 "RoofRegatta" "regatta" "LRoofRegatta$Regatta;" false (.object "RoofRegatta$Regatta") := ⟨RX1, TX1, 19, tyX1, rfl, by decide, in_X1, tyX1_ok, nmX1, rfl, rfl⟩
theorem f_0_6 : fOk 0 6 "RoofRegatta" "river" "LRoofRegatta$River;" false (.object "RoofRegatta$River") := ⟨RX1, TX1, 19, tyX1, rfl, by decide, in_X1, tyX1_ok, nmX1, rfl, rfl⟩
theorem f_0_7 : fOk 0 7 "RoofRegatta" "tried" "LRoofRegatta$River;" false (.object "RoofRegatta$River") := ⟨RX1, TX1, 19, tyX1, rfl, by decide, in_X1, tyX1_ok, nmX1, rfl, rfl⟩
theorem f_0_8 : fOk 0 8 "RoofRegatta" "past" "Ljava/util/ArrayList;" true (.object "java/util/ArrayList") := ⟨RX1, TX1, 19, tyX1, rfl, by decide, in_X1, tyX1_ok, nmX1, rfl, rfl⟩
theorem f_0_9 : fOk 0 9 "RoofRegatta" "images" "Ljava/util/ArrayList;" true (.object "java/util/ArrayList") := ⟨RX1, TX1, 19, tyX1, rfl, by decide, in_X1, tyX1_ok, nmX1, rfl, rfl⟩
theorem f_0_10 : fOk 0 10 "RoofRegatta" "bestLoad" "[I" true (.array .int) := ⟨RX1, TX1, 19, tyX1, rfl, by decide, in_X1, tyX1_ok, nmX1, rfl, rfl⟩
theorem f_0_11 : fOk 0 11 "RoofRegatta" "bestOf" "I" false (.int) := ⟨RX1, TX1, 19, tyX1, rfl, by decide, in_X1, tyX1_ok, nmX1, rfl, rfl⟩
theorem f_0_12 : fOk 0 12 "RoofRegatta" "bestMoves" "I" false (.int) := ⟨RX1, TX1, 19, tyX1, rfl, by decide, in_X1, tyX1_ok, nmX1, rfl, rfl⟩
theorem f_0_13 : fOk 0 13 "RoofRegatta" "firesNow" "I" false (.int) := ⟨RX1, TX1, 19, tyX1, rfl, by decide, in_X1, tyX1_ok, nmX1, rfl, rfl⟩
theorem f_0_14 : fOk 0 14 "RoofRegatta" "someLit" "I" false (.int) := ⟨RX1, TX1, 19, tyX1, rfl, by decide, in_X1, tyX1_ok, nmX1, rfl, rfl⟩
theorem f_0_15 : fOk 0 15 "RoofRegatta" "allLit" "I" false (.int) := ⟨RX1, TX1, 19, tyX1, rfl, by decide, in_X1, tyX1_ok, nmX1, rfl, rfl⟩
theorem f_0_16 : fOk 0 16 "RoofRegatta" "litIn" "[I" true (.array .int) := ⟨RX1, TX1, 19, tyX1, rfl, by decide, in_X1, tyX1_ok, nmX1, rfl, rfl⟩
theorem f_0_17 : fOk 0 17 "RoofRegatta" "askLeft" "I" false (.int) := ⟨RX1, TX1, 19, tyX1, rfl, by decide, in_X1, tyX1_ok, nmX1, rfl, rfl⟩
theorem f_0_18 : fOk 0 18 "RoofRegatta" "seedThen" "I" false (.int) := ⟨RX1, TX1, 19, tyX1, rfl, by decide, in_X1, tyX1_ok, nmX1, rfl, rfl⟩
theorem k_1 : kOk 1 RX2 43 tyX2 := ⟨TX2, rfl, in_X2, tyX2_ok⟩
theorem f_1_0 : fOk 1 0 "RoofRegattaModel" "thrown" "I" false (.int) := ⟨RX2, TX2, 43, tyX2, rfl, by decide, in_X2, tyX2_ok, nmX2, rfl, rfl⟩
theorem f_1_1 : fOk 1 1 "RoofRegattaModel" "tape" "[I" true (.array .int) := ⟨RX2, TX2, 43, tyX2, rfl, by decide, in_X2, tyX2_ok, nmX2, rfl, rfl⟩
theorem f_1_2 : fOk 1 2 "RoofRegattaModel" "taped" "I" false (.int) := ⟨RX2, TX2, 43, tyX2, rfl, by decide, in_X2, tyX2_ok, nmX2, rfl, rfl⟩
theorem f_1_3 : fOk 1 3 "RoofRegattaModel" "size" "I" false (.int) := ⟨RX2, TX2, 43, tyX2, rfl, by decide, in_X2, tyX2_ok, nmX2, rfl, rfl⟩
theorem f_1_4 : fOk 1 4 "RoofRegattaModel" "at" "I" false (.int) := ⟨RX2, TX2, 43, tyX2, rfl, by decide, in_X2, tyX2_ok, nmX2, rfl, rfl⟩
theorem f_1_5 : fOk 1 5 "RoofRegattaModel" "end" "I" false (.int) := ⟨RX2, TX2, 43, tyX2, rfl, by decide, in_X2, tyX2_ok, nmX2, rfl, rfl⟩
theorem f_1_6 : fOk 1 6 "RoofRegattaModel" "token" "I" false (.int) := ⟨RX2, TX2, 43, tyX2, rfl, by decide, in_X2, tyX2_ok, nmX2, rfl, rfl⟩
theorem f_1_7 : fOk 1 7 "RoofRegattaModel" "whole" "I" false (.int) := ⟨RX2, TX2, 43, tyX2, rfl, by decide, in_X2, tyX2_ok, nmX2, rfl, rfl⟩
theorem f_1_8 : fOk 1 8 "RoofRegattaModel" "nameSize" "I" false (.int) := ⟨RX2, TX2, 43, tyX2, rfl, by decide, in_X2, tyX2_ok, nmX2, rfl, rfl⟩
theorem f_1_9 : fOk 1 9 "RoofRegattaModel" "fault" "I" false (.int) := ⟨RX2, TX2, 43, tyX2, rfl, by decide, in_X2, tyX2_ok, nmX2, rfl, rfl⟩
theorem f_1_10 : fOk 1 10 "RoofRegattaModel" "place" "I" false (.int) := ⟨RX2, TX2, 43, tyX2, rfl, by decide, in_X2, tyX2_ok, nmX2, rfl, rfl⟩
theorem f_1_11 : fOk 1 11 "RoofRegattaModel" "trouble" "I" false (.int) := ⟨RX2, TX2, 43, tyX2, rfl, by decide, in_X2, tyX2_ok, nmX2, rfl, rfl⟩
theorem f_1_12 : fOk 1 12 "RoofRegattaModel" "letters" "[I" true (.array .int) := ⟨RX2, TX2, 43, tyX2, rfl, by decide, in_X2, tyX2_ok, nmX2, rfl, rfl⟩
theorem f_1_13 : fOk 1 13 "RoofRegattaModel" "failed" "Z" false (.boolean) := ⟨RX2, TX2, 43, tyX2, rfl, by decide, in_X2, tyX2_ok, nmX2, rfl, rfl⟩
theorem f_1_14 : fOk 1 14 "RoofRegattaModel" "hasRegatta" "Z" false (.boolean) := ⟨RX2, TX2, 43, tyX2, rfl, by decide, in_X2, tyX2_ok, nmX2, rfl, rfl⟩
theorem f_1_15 : fOk 1 15 "RoofRegattaModel" "\x72" "[I" true (.array .int) := ⟨RX2, TX2, 43, tyX2, rfl, by decide, in_X2, tyX2_ok, nmX2, rfl, rfl⟩
theorem f_1_16 : fOk 1 16 "RoofRegattaModel" "fresh" "[I" true (.array .int) := ⟨RX2, TX2, 43, tyX2, rfl, by decide, in_X2, tyX2_ok, nmX2, rfl, rfl⟩
theorem f_1_17 : fOk 1 17 "RoofRegattaModel" "st" "[I" true (.array .int) := ⟨RX2, TX2, 43, tyX2, rfl, by decide, in_X2, tyX2_ok, nmX2, rfl, rfl⟩
theorem f_1_18 : fOk 1 18 "RoofRegattaModel" "undone" "[I" true (.array .int) := ⟨RX2, TX2, 43, tyX2, rfl, by decide, in_X2, tyX2_ok, nmX2, rfl, rfl⟩
theorem f_1_19 : fOk 1 19 "RoofRegattaModel" "kept" "[I" true (.array .int) := ⟨RX2, TX2, 43, tyX2, rfl, by decide, in_X2, tyX2_ok, nmX2, rfl, rfl⟩
theorem f_1_20 : fOk 1 20 "RoofRegattaModel" "undos" "I" false (.int) := ⟨RX2, TX2, 43, tyX2, rfl, by decide, in_X2, tyX2_ok, nmX2, rfl, rfl⟩
theorem f_1_21 : fOk 1 21 "RoofRegattaModel" "images" "I" false (.int) := ⟨RX2, TX2, 43, tyX2, rfl, by decide, in_X2, tyX2_ok, nmX2, rfl, rfl⟩
theorem f_1_22 : fOk 1 22 "RoofRegattaModel" "rainy" "I" false (.int) := ⟨RX2, TX2, 43, tyX2, rfl, by decide, in_X2, tyX2_ok, nmX2, rfl, rfl⟩
theorem f_1_23 : fOk 1 23 "RoofRegattaModel" "totals" "[I" true (.array .int) := ⟨RX2, TX2, 43, tyX2, rfl, by decide, in_X2, tyX2_ok, nmX2, rfl, rfl⟩
theorem f_1_24 : fOk 1 24 "RoofRegattaModel" "ranks" "[I" true (.array .int) := ⟨RX2, TX2, 43, tyX2, rfl, by decide, in_X2, tyX2_ok, nmX2, rfl, rfl⟩
theorem f_1_25 : fOk 1 25 "RoofRegattaModel" "outs" "I" false (.int) := ⟨RX2, TX2, 43, tyX2, rfl, by decide, in_X2, tyX2_ok, nmX2, rfl, rfl⟩
theorem f_1_26 : fOk 1 26 "RoofRegattaModel" "trial" "[I" true (.array .int) := ⟨RX2, TX2, 43, tyX2, rfl, by decide, in_X2, tyX2_ok, nmX2, rfl, rfl⟩
theorem f_1_27 : fOk 1 27 "RoofRegattaModel" "bestLoad" "[I" true (.array .int) := ⟨RX2, TX2, 43, tyX2, rfl, by decide, in_X2, tyX2_ok, nmX2, rfl, rfl⟩
theorem f_1_28 : fOk 1 28 "RoofRegattaModel" "wanted" "I" false (.int) := ⟨RX2, TX2, 43, tyX2, rfl, by decide, in_X2, tyX2_ok, nmX2, rfl, rfl⟩
theorem f_1_29 : fOk 1 29 "RoofRegattaModel" "bestKey" "I" false (.int) := ⟨RX2, TX2, 43, tyX2, rfl, by decide, in_X2, tyX2_ok, nmX2, rfl, rfl⟩
theorem f_1_30 : fOk 1 30 "RoofRegattaModel" "bestMoved" "I" false (.int) := ⟨RX2, TX2, 43, tyX2, rfl, by decide, in_X2, tyX2_ok, nmX2, rfl, rfl⟩
theorem f_1_31 : fOk 1 31 "RoofRegattaModel" "leastSum" "I" false (.int) := ⟨RX2, TX2, 43, tyX2, rfl, by decide, in_X2, tyX2_ok, nmX2, rfl, rfl⟩
theorem f_1_32 : fOk 1 32 "RoofRegattaModel" "litMany" "[I" true (.array .int) := ⟨RX2, TX2, 43, tyX2, rfl, by decide, in_X2, tyX2_ok, nmX2, rfl, rfl⟩
theorem f_1_33 : fOk 1 33 "RoofRegattaModel" "setMany" "I" false (.int) := ⟨RX2, TX2, 43, tyX2, rfl, by decide, in_X2, tyX2_ok, nmX2, rfl, rfl⟩
theorem f_1_34 : fOk 1 34 "RoofRegattaModel" "someLit" "I" false (.int) := ⟨RX2, TX2, 43, tyX2, rfl, by decide, in_X2, tyX2_ok, nmX2, rfl, rfl⟩
theorem f_1_35 : fOk 1 35 "RoofRegattaModel" "allLit" "I" false (.int) := ⟨RX2, TX2, 43, tyX2, rfl, by decide, in_X2, tyX2_ok, nmX2, rfl, rfl⟩
theorem f_1_36 : fOk 1 36 "RoofRegattaModel" "allWeight" "J" false (.long) := ⟨RX2, TX2, 43, tyX2, rfl, by decide, in_X2, tyX2_ok, nmX2, rfl, rfl⟩
theorem f_1_37 : fOk 1 37 "RoofRegattaModel" "rankWeight" "J" false (.long) := ⟨RX2, TX2, 43, tyX2, rfl, by decide, in_X2, tyX2_ok, nmX2, rfl, rfl⟩
theorem f_1_38 : fOk 1 38 "RoofRegattaModel" "totalSum" "J" false (.long) := ⟨RX2, TX2, 43, tyX2, rfl, by decide, in_X2, tyX2_ok, nmX2, rfl, rfl⟩
theorem f_1_39 : fOk 1 39 "RoofRegattaModel" "prizeSum" "J" false (.long) := ⟨RX2, TX2, 43, tyX2, rfl, by decide, in_X2, tyX2_ok, nmX2, rfl, rfl⟩
theorem f_1_40 : fOk 1 40 "RoofRegattaModel" "won" "[I" true (.array .int) := ⟨RX2, TX2, 43, tyX2, rfl, by decide, in_X2, tyX2_ok, nmX2, rfl, rfl⟩
theorem f_1_41 : fOk 1 41 "RoofRegattaModel" "leastEver" "I" false (.int) := ⟨RX2, TX2, 43, tyX2, rfl, by decide, in_X2, tyX2_ok, nmX2, rfl, rfl⟩
theorem f_1_42 : fOk 1 42 "RoofRegattaModel" "firstRest" "I" false (.int) := ⟨RX2, TX2, 43, tyX2, rfl, by decide, in_X2, tyX2_ok, nmX2, rfl, rfl⟩
theorem k_2 : kOk 2 RX3 5 tyX3 := ⟨TX3, rfl, in_X3, tyX3_ok⟩
theorem f_2_0 : fOk 2 0 "RoofRegatta$Reader" "tokens" "LRoofRegatta$Tokens;" true (.object "RoofRegatta$Tokens") := ⟨RX3, TX3, 5, tyX3, rfl, by decide, in_X3, tyX3_ok, nmX3, rfl, rfl⟩
theorem f_2_1 : fOk 2 1 "RoofRegatta$Reader" "regatta" "LRoofRegatta$Regatta;" true (.object "RoofRegatta$Regatta") := ⟨RX3, TX3, 5, tyX3, rfl, by decide, in_X3, tyX3_ok, nmX3, rfl, rfl⟩
theorem f_2_2 : fOk 2 2 "RoofRegatta$Reader" "now" "LRoofRegatta$Token;" false (.object "RoofRegatta$Token") := ⟨RX3, TX3, 5, tyX3, rfl, by decide, in_X3, tyX3_ok, nmX3, rfl, rfl⟩
theorem f_2_3 : fOk 2 3 "RoofRegatta$Reader" "fault" "I" false (.int) := ⟨RX3, TX3, 5, tyX3, rfl, by decide, in_X3, tyX3_ok, nmX3, rfl, rfl⟩
theorem f_2_4 : fOk 2 4 "RoofRegatta$Reader" "place" "I" false (.int) := ⟨RX3, TX3, 5, tyX3, rfl, by decide, in_X3, tyX3_ok, nmX3, rfl, rfl⟩
theorem k_3 : kOk 3 RX4 3 tyX4 := ⟨TX4, rfl, in_X4, tyX4_ok⟩
theorem f_3_0 : fOk 3 0 "RoofRegatta$Tokens" "text" "[B" true (.array .byte) := ⟨RX4, TX4, 3, tyX4, rfl, by decide, in_X4, tyX4_ok, nmX4, rfl, rfl⟩
theorem f_3_1 : fOk 3 1 "RoofRegatta$Tokens" "size" "I" true (.int) := ⟨RX4, TX4, 3, tyX4, rfl, by decide, in_X4, tyX4_ok, nmX4, rfl, rfl⟩
theorem f_3_2 : fOk 3 2 "RoofRegatta$Tokens" "at" "I" false (.int) := ⟨RX4, TX4, 3, tyX4, rfl, by decide, in_X4, tyX4_ok, nmX4, rfl, rfl⟩
theorem k_4 : kOk 4 RX5 12 tyX5 := ⟨TX5, rfl, in_X5, tyX5_ok⟩
theorem f_4_0 : fOk 4 0 "RoofRegatta$Regatta" "water" "I" false (.int) := ⟨RX5, TX5, 12, tyX5, rfl, by decide, in_X5, tyX5_ok, nmX5, rfl, rfl⟩
theorem f_4_1 : fOk 4 1 "RoofRegatta$Regatta" "bridge" "I" false (.int) := ⟨RX5, TX5, 12, tyX5, rfl, by decide, in_X5, tyX5_ok, nmX5, rfl, rfl⟩
theorem f_4_2 : fOk 4 2 "RoofRegatta$Regatta" "storey" "I" false (.int) := ⟨RX5, TX5, 12, tyX5, rfl, by decide, in_X5, tyX5_ok, nmX5, rfl, rfl⟩
theorem f_4_3 : fOk 4 3 "RoofRegatta$Regatta" "rain" "I" false (.int) := ⟨RX5, TX5, 12, tyX5, rfl, by decide, in_X5, tyX5_ok, nmX5, rfl, rfl⟩
theorem f_4_4 : fOk 4 4 "RoofRegatta$Regatta" "by" "I" false (.int) := ⟨RX5, TX5, 12, tyX5, rfl, by decide, in_X5, tyX5_ok, nmX5, rfl, rfl⟩
theorem f_4_5 : fOk 4 5 "RoofRegatta$Regatta" "friendships" "I" false (.int) := ⟨RX5, TX5, 12, tyX5, rfl, by decide, in_X5, tyX5_ok, nmX5, rfl, rfl⟩
theorem f_4_6 : fOk 4 6 "RoofRegatta$Regatta" "manyPrizes" "I" false (.int) := ⟨RX5, TX5, 12, tyX5, rfl, by decide, in_X5, tyX5_ok, nmX5, rfl, rfl⟩
theorem f_4_7 : fOk 4 7 "RoofRegatta$Regatta" "prizes" "[I" true (.array .int) := ⟨RX5, TX5, 12, tyX5, rfl, by decide, in_X5, tyX5_ok, nmX5, rfl, rfl⟩
theorem f_4_8 : fOk 4 8 "RoofRegatta$Regatta" "bends" "Ljava/util/ArrayList;" true (.object "java/util/ArrayList") := ⟨RX5, TX5, 12, tyX5, rfl, by decide, in_X5, tyX5_ok, nmX5, rfl, rfl⟩
theorem f_4_9 : fOk 4 9 "RoofRegatta$Regatta" "houses" "Ljava/util/ArrayList;" true (.object "java/util/ArrayList") := ⟨RX5, TX5, 12, tyX5, rfl, by decide, in_X5, tyX5_ok, nmX5, rfl, rfl⟩
theorem f_4_10 : fOk 4 10 "RoofRegatta$Regatta" "lodgers" "Ljava/util/ArrayList;" true (.object "java/util/ArrayList") := ⟨RX5, TX5, 12, tyX5, rfl, by decide, in_X5, tyX5_ok, nmX5, rfl, rfl⟩
theorem f_4_11 : fOk 4 11 "RoofRegatta$Regatta" "seen" "Ljava/util/ArrayList;" true (.object "java/util/ArrayList") := ⟨RX5, TX5, 12, tyX5, rfl, by decide, in_X5, tyX5_ok, nmX5, rfl, rfl⟩
theorem k_5 : kOk 5 RX6 4 tyX6 := ⟨TX6, rfl, in_X6, tyX6_ok⟩
theorem f_5_0 : fOk 5 0 "RoofRegatta$Token" "sort" "I" true (.int) := ⟨RX6, TX6, 4, tyX6, rfl, by decide, in_X6, tyX6_ok, nmX6, rfl, rfl⟩
theorem f_5_1 : fOk 5 1 "RoofRegatta$Token" "place" "I" true (.int) := ⟨RX6, TX6, 4, tyX6, rfl, by decide, in_X6, tyX6_ok, nmX6, rfl, rfl⟩
theorem f_5_2 : fOk 5 2 "RoofRegatta$Token" "number" "I" true (.int) := ⟨RX6, TX6, 4, tyX6, rfl, by decide, in_X6, tyX6_ok, nmX6, rfl, rfl⟩
theorem f_5_3 : fOk 5 3 "RoofRegatta$Token" "word" "Ljava/lang/String;" true (.object "java/lang/String") := ⟨RX6, TX6, 4, tyX6, rfl, by decide, in_X6, tyX6_ok, nmX6, rfl, rfl⟩
theorem k_6 : kOk 6 RX7 3 tyX7 := ⟨TX7, rfl, in_X7, tyX7_ok⟩
theorem f_6_0 : fOk 6 0 "RoofRegatta$Bend" "name" "Ljava/lang/String;" true (.object "java/lang/String") := ⟨RX7, TX7, 3, tyX7, rfl, by decide, in_X7, tyX7_ok, nmX7, rfl, rfl⟩
theorem f_6_1 : fOk 6 1 "RoofRegatta$Bend" "length" "I" false (.int) := ⟨RX7, TX7, 3, tyX7, rfl, by decide, in_X7, tyX7_ok, nmX7, rfl, rfl⟩
theorem f_6_2 : fOk 6 2 "RoofRegatta$Bend" "inside" "I" false (.int) := ⟨RX7, TX7, 3, tyX7, rfl, by decide, in_X7, tyX7_ok, nmX7, rfl, rfl⟩
theorem k_7 : kOk 7 RX8 4 tyX8 := ⟨TX8, rfl, in_X8, tyX8_ok⟩
theorem f_7_0 : fOk 7 0 "RoofRegatta$House" "name" "Ljava/lang/String;" true (.object "java/lang/String") := ⟨RX8, TX8, 4, tyX8, rfl, by decide, in_X8, tyX8_ok, nmX8, rfl, rfl⟩
theorem f_7_1 : fOk 7 1 "RoofRegatta$House" "lane" "I" false (.int) := ⟨RX8, TX8, 4, tyX8, rfl, by decide, in_X8, tyX8_ok, nmX8, rfl, rfl⟩
theorem f_7_2 : fOk 7 2 "RoofRegatta$House" "tiles" "I" false (.int) := ⟨RX8, TX8, 4, tyX8, rfl, by decide, in_X8, tyX8_ok, nmX8, rfl, rfl⟩
theorem f_7_3 : fOk 7 3 "RoofRegatta$House" "storeys" "I" false (.int) := ⟨RX8, TX8, 4, tyX8, rfl, by decide, in_X8, tyX8_ok, nmX8, rfl, rfl⟩
theorem k_8 : kOk 8 RX9 4 tyX9 := ⟨TX9, rfl, in_X9, tyX9_ok⟩
theorem f_8_0 : fOk 8 0 "RoofRegatta$House" "name" "Ljava/lang/String;" true (.object "java/lang/String") := ⟨RX9, TX9, 4, tyX9, rfl, by decide, in_X9, tyX9_ok, nmX9, rfl, rfl⟩
theorem f_8_1 : fOk 8 1 "RoofRegatta$House" "lane" "I" false (.int) := ⟨RX9, TX9, 4, tyX9, rfl, by decide, in_X9, tyX9_ok, nmX9, rfl, rfl⟩
theorem f_8_2 : fOk 8 2 "RoofRegatta$House" "tiles" "I" false (.int) := ⟨RX9, TX9, 4, tyX9, rfl, by decide, in_X9, tyX9_ok, nmX9, rfl, rfl⟩
theorem f_8_3 : fOk 8 3 "RoofRegatta$House" "storeys" "I" false (.int) := ⟨RX9, TX9, 4, tyX9, rfl, by decide, in_X9, tyX9_ok, nmX9, rfl, rfl⟩
theorem k_9 : kOk 9 RX10 4 tyX10 := ⟨TX10, rfl, in_X10, tyX10_ok⟩
theorem f_9_0 : fOk 9 0 "RoofRegatta$House" "name" "Ljava/lang/String;" true (.object "java/lang/String") := ⟨RX10, TX10, 4, tyX10, rfl, by decide, in_X10, tyX10_ok, nmX10, rfl, rfl⟩
theorem f_9_1 : fOk 9 1 "RoofRegatta$House" "lane" "I" false (.int) := ⟨RX10, TX10, 4, tyX10, rfl, by decide, in_X10, tyX10_ok, nmX10, rfl, rfl⟩
theorem f_9_2 : fOk 9 2 "RoofRegatta$House" "tiles" "I" false (.int) := ⟨RX10, TX10, 4, tyX10, rfl, by decide, in_X10, tyX10_ok, nmX10, rfl, rfl⟩
theorem f_9_3 : fOk 9 3 "RoofRegatta$House" "storeys" "I" false (.int) := ⟨RX10, TX10, 4, tyX10, rfl, by decide, in_X10, tyX10_ok, nmX10, rfl, rfl⟩
theorem k_10 : kOk 10 RX11 4 tyX11 := ⟨TX11, rfl, in_X11, tyX11_ok⟩
theorem f_10_0 : fOk 10 0 "RoofRegatta$House" "name" "Ljava/lang/String;" true (.object "java/lang/String") := ⟨RX11, TX11, 4, tyX11, rfl, by decide, in_X11, tyX11_ok, nmX11, rfl, rfl⟩
theorem f_10_1 : fOk 10 1 "RoofRegatta$House" "lane" "I" false (.int) := ⟨RX11, TX11, 4, tyX11, rfl, by decide, in_X11, tyX11_ok, nmX11, rfl, rfl⟩
theorem f_10_2 : fOk 10 2 "RoofRegatta$House" "tiles" "I" false (.int) := ⟨RX11, TX11, 4, tyX11, rfl, by decide, in_X11, tyX11_ok, nmX11, rfl, rfl⟩
theorem f_10_3 : fOk 10 3 "RoofRegatta$House" "storeys" "I" false (.int) := ⟨RX11, TX11, 4, tyX11, rfl, by decide, in_X11, tyX11_ok, nmX11, rfl, rfl⟩
theorem k_11 : kOk 11 RX12 5 tyX12 := ⟨TX12, rfl, in_X12, tyX12_ok⟩
theorem f_11_0 : fOk 11 0 "RoofRegatta$Lodger" "name" "Ljava/lang/String;" true (.object "java/lang/String") := ⟨RX12, TX12, 5, tyX12, rfl, by decide, in_X12, tyX12_ok, nmX12, rfl, rfl⟩
theorem f_11_1 : fOk 11 1 "RoofRegatta$Lodger" "weighs" "I" false (.int) := ⟨RX12, TX12, 5, tyX12, rfl, by decide, in_X12, tyX12_ok, nmX12, rfl, rfl⟩
theorem f_11_2 : fOk 11 2 "RoofRegatta$Lodger" "rows" "I" false (.int) := ⟨RX12, TX12, 5, tyX12, rfl, by decide, in_X12, tyX12_ok, nmX12, rfl, rfl⟩
theorem f_11_3 : fOk 11 3 "RoofRegatta$Lodger" "house" "I" false (.int) := ⟨RX12, TX12, 5, tyX12, rfl, by decide, in_X12, tyX12_ok, nmX12, rfl, rfl⟩
theorem f_11_4 : fOk 11 4 "RoofRegatta$Lodger" "friends" "I" false (.int) := ⟨RX12, TX12, 5, tyX12, rfl, by decide, in_X12, tyX12_ok, nmX12, rfl, rfl⟩
theorem k_12 : kOk 12 RX13 3 tyX13 := ⟨TX13, rfl, in_X13, tyX13_ok⟩
theorem f_12_0 : fOk 12 0 "RoofRegatta$Seen" "one" "I" true (.int) := ⟨RX13, TX13, 3, tyX13, rfl, by decide, in_X13, tyX13_ok, nmX13, rfl, rfl⟩
theorem f_12_1 : fOk 12 1 "RoofRegatta$Seen" "two" "I" true (.int) := ⟨RX13, TX13, 3, tyX13, rfl, by decide, in_X13, tyX13_ok, nmX13, rfl, rfl⟩
theorem f_12_2 : fOk 12 2 "RoofRegatta$Seen" "bend" "I" true (.int) := ⟨RX13, TX13, 3, tyX13, rfl, by decide, in_X13, tyX13_ok, nmX13, rfl, rfl⟩
theorem k_13 : kOk 13 RX14 5 tyX14 := ⟨TX14, rfl, in_X14, tyX14_ok⟩
theorem f_13_0 : fOk 13 0 "RoofRegatta$River" "regatta" "LRoofRegatta$Regatta;" true (.object "RoofRegatta$Regatta") := ⟨RX14, TX14, 5, tyX14, rfl, by decide, in_X14, tyX14_ok, nmX14, rfl, rfl⟩
theorem f_13_1 : fOk 13 1 "RoofRegatta$River" "house" "[I" true (.array .int) := ⟨RX14, TX14, 5, tyX14, rfl, by decide, in_X14, tyX14_ok, nmX14, rfl, rfl⟩
theorem f_13_2 : fOk 13 2 "RoofRegatta$River" "lane" "[I" true (.array .int) := ⟨RX14, TX14, 5, tyX14, rfl, by decide, in_X14, tyX14_ok, nmX14, rfl, rfl⟩
theorem f_13_3 : fOk 13 3 "RoofRegatta$River" "lit" "I" false (.int) := ⟨RX14, TX14, 5, tyX14, rfl, by decide, in_X14, tyX14_ok, nmX14, rfl, rfl⟩
theorem f_13_4 : fOk 13 4 "RoofRegatta$River" "water" "I" false (.int) := ⟨RX14, TX14, 5, tyX14, rfl, by decide, in_X14, tyX14_ok, nmX14, rfl, rfl⟩
theorem k_14 : kOk 14 RJ2 3 tyJ2 := ⟨TJ2, rfl, in_J2, tyJ2_ok⟩
theorem f_14_0 : fOk 14 0 "java/util/AbstractList" "modCount" "I" false (.int) := ⟨RJ2, TJ2, 3, tyJ2, rfl, by decide, in_J2, tyJ2_ok, nmJ2, rfl, rfl⟩
theorem f_14_1 : fOk 14 1 "java/util/ArrayList" "elementData" "[Ljava/lang/Object;" false (.array (.object "java/lang/Object")) := ⟨RJ2, TJ2, 3, tyJ2, rfl, by decide, in_J2, tyJ2_ok, nmJ2, rfl, rfl⟩
theorem f_14_2 : fOk 14 2 "java/util/ArrayList" "size" "I" false (.int) := ⟨RJ2, TJ2, 3, tyJ2, rfl, by decide, in_J2, tyJ2_ok, nmJ2, rfl, rfl⟩
theorem k_15 : kOk 15 RJ4 4 tyJ4 := ⟨TJ4, rfl, in_J4, tyJ4_ok⟩
theorem f_15_0 : fOk 15 0 "java/lang/AbstractStringBuilder" "value" "[B" false (.array .byte) := ⟨RJ4, TJ4, 4, tyJ4, rfl, by decide, in_J4, tyJ4_ok, nmJ4, rfl, rfl⟩
theorem f_15_1 : fOk 15 1 "java/lang/AbstractStringBuilder" "coder" "B" false (.byte) := ⟨RJ4, TJ4, 4, tyJ4, rfl, by decide, in_J4, tyJ4_ok, nmJ4, rfl, rfl⟩
theorem f_15_2 : fOk 15 2 "java/lang/AbstractStringBuilder" "maybeLatin1" "Z" false (.boolean) := ⟨RJ4, TJ4, 4, tyJ4, rfl, by decide, in_J4, tyJ4_ok, nmJ4, rfl, rfl⟩
theorem f_15_3 : fOk 15 3 "java/lang/AbstractStringBuilder" "count" "I" false (.int) := ⟨RJ4, TJ4, 4, tyJ4, rfl, by decide, in_J4, tyJ4_ok, nmJ4, rfl, rfl⟩
theorem k_16 : kOk 16 RJ5 4 tyJ5 := ⟨TJ5, rfl, in_J5, tyJ5_ok⟩
theorem f_16_0 : fOk 16 0 "java/lang/String" "value" "[B" true (.array .byte) := ⟨RJ5, TJ5, 4, tyJ5, rfl, by decide, in_J5, tyJ5_ok, nmJ5, rfl, rfl⟩
theorem f_16_1 : fOk 16 1 "java/lang/String" "coder" "B" true (.byte) := ⟨RJ5, TJ5, 4, tyJ5, rfl, by decide, in_J5, tyJ5_ok, nmJ5, rfl, rfl⟩
theorem f_16_2 : fOk 16 2 "java/lang/String" "hash" "I" false (.int) := ⟨RJ5, TJ5, 4, tyJ5, rfl, by decide, in_J5, tyJ5_ok, nmJ5, rfl, rfl⟩
theorem f_16_3 : fOk 16 3 "java/lang/String" "hashIsZero" "Z" false (.boolean) := ⟨RJ5, TJ5, 4, tyJ5, rfl, by decide, in_J5, tyJ5_ok, nmJ5, rfl, rfl⟩
theorem k_17 : kOk 17 RJ16 6 tyJ16 := ⟨TJ16, rfl, in_J16, tyJ16_ok⟩
theorem f_17_0 : fOk 17 0 "java/lang/Throwable" "cause" "Ljava/lang/Throwable;" false (.object "java/lang/Throwable") := ⟨RJ16, TJ16, 6, tyJ16, rfl, by decide, in_J16, tyJ16_ok, nmJ16, rfl, rfl⟩
theorem f_17_1 : fOk 17 1 "java/lang/Throwable" "stackTrace" "[Ljava/lang/StackTraceElement;" false (.array (.object "java/lang/StackTraceElement")) := ⟨RJ16, TJ16, 6, tyJ16, rfl, by decide, in_J16, tyJ16_ok, nmJ16, rfl, rfl⟩
theorem f_17_2 : fOk 17 2 "java/lang/Throwable" "suppressedExceptions" "Ljava/util/List;" false (.object "java/util/List") := ⟨RJ16, TJ16, 6, tyJ16, rfl, by decide, in_J16, tyJ16_ok, nmJ16, rfl, rfl⟩
theorem f_17_3 : fOk 17 3 "java/lang/Throwable" "detailMessage" "Ljava/lang/String;" false (.object "java/lang/String") := ⟨RJ16, TJ16, 6, tyJ16, rfl, by decide, in_J16, tyJ16_ok, nmJ16, rfl, rfl⟩
theorem f_17_4 : fOk 17 4 "java/lang/Throwable" "backtrace" "Ljava/lang/Object;" false (.object "java/lang/Object") := ⟨RJ16, TJ16, 6, tyJ16, rfl, by decide, in_J16, tyJ16_ok, nmJ16, rfl, rfl⟩
theorem f_17_5 : fOk 17 5 "java/lang/Throwable" "depth" "I" false (.int) := ⟨RJ16, TJ16, 6, tyJ16, rfl, by decide, in_J16, tyJ16_ok, nmJ16, rfl, rfl⟩
/-- the texts of the constants, each with its number: 25 -/
def txs : List (String × Nat × String × Nat) := [("RoofRegatta$Reader", 118, "", 0), ("RoofRegatta$Reader", 126, "regatta", 14), ("RoofRegatta$Reader", 131, "bend", 2), ("RoofRegatta$Reader", 132, "house", 7), ("RoofRegatta$Reader", 133, "lodger", 9), ("RoofRegatta$Reader", 134, "aboard", 1), ("RoofRegatta$Reader", 136, "friend", 6), ("RoofRegatta$Reader", 138, "prize", 11), ("RoofRegatta$Reader", 140, "saw", 17), ("RoofRegatta$Reader", 159, "water", 23), ("RoofRegatta$Reader", 164, "bridge", 3), ("RoofRegatta$Reader", 166, "storey", 18), ("RoofRegatta$Reader", 168, "rain", 13), ("RoofRegatta$Reader", 170, "by", 4), ("RoofRegatta$Reader", 198, "long", 10), ("RoofRegatta$Reader", 212, "cottage", 5), ("RoofRegatta$Reader", 214, "terrace", 20), ("RoofRegatta$Reader", 216, "villa", 22), ("RoofRegatta$Reader", 218, "pub", 12), ("RoofRegatta$Reader", 239, "tiles", 21), ("RoofRegatta$Reader", 243, "storeys", 19), ("RoofRegatta$Reader", 253, "weighs", 24), ("RoofRegatta$Reader", 257, "rows", 16), ("RoofRegatta$Reader", 96, "left", 8), ("RoofRegatta$Reader", 98, "right", 15), ("RoofRegatta$Token", 33, "regatta", 14), ("RoofRegatta$Token", 35, "bend", 2), ("RoofRegatta$Token", 37, "house", 7), ("RoofRegatta$Token", 39, "lodger", 9), ("RoofRegatta$Token", 41, "aboard", 1), ("RoofRegatta$Token", 43, "friend", 6), ("RoofRegatta$Token", 45, "prize", 11), ("RoofRegatta$Token", 47, "saw", 17), ("RoofRegatta$Tokens", 28, "", 0), ("RoofRegattaModel", 122, "regatta", 14), ("RoofRegattaModel", 124, "bend", 2), ("RoofRegattaModel", 126, "house", 7), ("RoofRegattaModel", 128, "lodger", 9), ("RoofRegattaModel", 130, "aboard", 1), ("RoofRegattaModel", 132, "friend", 6), ("RoofRegattaModel", 134, "prize", 11), ("RoofRegattaModel", 136, "saw", 17), ("RoofRegattaModel", 159, "left", 8), ("RoofRegattaModel", 161, "right", 15), ("RoofRegattaModel", 213, "water", 23), ("RoofRegattaModel", 219, "bridge", 3), ("RoofRegattaModel", 221, "storey", 18), ("RoofRegattaModel", 223, "rain", 13), ("RoofRegattaModel", 225, "by", 4), ("RoofRegattaModel", 231, "long", 10), ("RoofRegattaModel", 236, "cottage", 5), ("RoofRegattaModel", 238, "terrace", 20), ("RoofRegattaModel", 240, "villa", 22), ("RoofRegattaModel", 242, "pub", 12), ("RoofRegattaModel", 244, "tiles", 21), ("RoofRegattaModel", 246, "storeys", 19), ("RoofRegattaModel", 248, "weighs", 24), ("RoofRegattaModel", 250, "rows", 16)]
/-- the letters of the texts -/
def txb : List (List Nat) := [[], [97, 98, 111, 97, 114, 100], [98, 101, 110, 100], [98, 114, 105, 100, 103, 101], [98, 121], [99, 111, 116, 116, 97, 103, 101], [102, 114, 105, 101, 110, 100], [104, 111, 117, 115, 101], [108, 101, 102, 116], [108, 111, 100, 103, 101, 114], [108, 111, 110, 103], [112, 114, 105, 122, 101], [112, 117, 98], [114, 97, 105, 110], [114, 101, 103, 97, 116, 116, 97], [114, 105, 103, 104, 116], [114, 111, 119, 115], [115, 97, 119], [115, 116, 111, 114, 101, 121], [115, 116, 111, 114, 101, 121, 115], [116, 101, 114, 114, 97, 99, 101], [116, 105, 108, 101, 115], [118, 105, 108, 108, 97], [119, 97, 116, 101, 114], [119, 101, 105, 103, 104, 115]]
/-- the cell at a is c -/
def okC (Δ : Cx) (a : Nat) (c : Cel) (H : Heap) : Prop :=
  ∃ cell : Cell, H[a]? = some cell ∧ cell.vm ≠ .unknown ∧ (∀ k, cell.vm ≠ .statics k) ∧ (n0 Δ ≤ a → cell.vm = .none) ∧
    ((∃ r : vw_C, clz[c.1]? = some r ∧ cell.cls = cC Δ c.1 ∧ ∀ k, k < r.2.2 → cell.slots[cI Δ c.1 k]? = some (c.2.2 k)) ∨
     (∃ t : Nat, c.1 = 100 + t ∧ t < 4 ∧ c.2.1 < 2 ^ 31 ∧ (cS Δ).isArrayOf cell (tyA t) ∧ (n0 Δ ≤ a → cell.cls = cA Δ t) ∧ cell.slots.size = c.2.1 ∧ ∀ j, j < c.2.1 → cell.slots[j]? = some (c.2.2 j)))
def ce (Δ : Cx) (h : Hp) (a : Nat) : Option Cel := if h.1 ≤ a then none else if a < n0 Δ then cK Δ a else h.2.2 a
def hput (h : Hp) (a : Nat) (c : Cel) : Hp := (h.1, h.2.1, fun b => if b = a then some c else h.2.2 b)
def hnew (h : Hp) (n : Nat) (c : Cel) : Hp := (h.1 + 1, h.2.1 + n, fun b => if b = h.1 then some c else h.2.2 b)
theorem ce_lt {Δ : Cx} {h : Hp} {a : Nat} {c : Cel} (e : ce Δ h a = some c) : a < h.1 := by
  unfold ce at e
  split at e
  · cases e
  · omega
theorem ce_put {Δ : Cx} {h : Hp} {a : Nat} {c : Cel} (ha : a < h.1) (hn : n0 Δ ≤ a) : ce Δ (hput h a c) a = some c := by
  unfold ce hput
  rw [if_neg (by show ¬ h.1 ≤ a; omega), if_neg (by omega)]
  exact if_pos rfl
theorem ce_put_ne {Δ : Cx} {h : Hp} {a b : Nat} {c : Cel} (hb : b ≠ a) : ce Δ (hput h a c) b = ce Δ h b := by
  unfold ce hput
  show (if h.1 ≤ b then none else if b < n0 Δ then cK Δ b else if b = a then some c else h.2.2 b) = _
  rw [if_neg hb]
theorem ce_new {Δ : Cx} {h : Hp} {n : Nat} {c : Cel} (hn : n0 Δ ≤ h.1) : ce Δ (hnew h n c) h.1 = some c := by
  unfold ce hnew
  rw [if_neg (by show ¬ h.1 + 1 ≤ h.1; omega), if_neg (by omega)]
  exact if_pos rfl
theorem ce_new_ne {Δ : Cx} {h : Hp} {n b : Nat} {c : Cel} (hb : b < h.1) : ce Δ (hnew h n c) b = ce Δ h b := by
  unfold ce hnew
  show (if h.1 + 1 ≤ b then none else if b < n0 Δ then cK Δ b else if b = h.1 then some c else h.2.2 b) = _
  rw [if_neg (by omega : ¬ b = h.1), if_neg (by omega), if_neg (by omega : ¬ h.1 ≤ b)]
theorem ce_new_old {Δ : Cx} {h : Hp} {n b : Nat} {c c0 : Cel} (e : ce Δ h b = some c0) : ce Δ (hnew h n c) b = some c0 := by rw [ce_new_ne (ce_lt e)]; exact e
/-- the machine's heap is the world's -/
def Rl (Δ : Cx) (h : Hp) (H : Heap) : Prop := H.size = h.1 ∧ n0 Δ ≤ h.1 ∧ (∀ (a : Nat) (c : Cel), ce Δ h a = some c → okC Δ a c H) ∧ ∀ q : Nat, q < n0 Δ → H[q]? = (cS Δ).heap[q]?
/-- what is known at the law's entry -/
def okCx (Δ : Cx) : Prop := (cL Δ).stackTraces = false ∧ (∀ (c : Nat) (q : vw_C), clz[c]? = some q → u_Kn (cS Δ) q.1 q.2.1 q.2.2 (cC Δ c) (cI Δ c)) ∧ (∀ t : Nat, t < 4 → ArrOfT (cS Δ) (cA Δ t) (tyA t) ∧ va_RA (cS Δ) (cA Δ t) (tyA t)) ∧ (∃ b : Nat, ∀ w ∈ lw_tbl, w.before #[Value.ref b] (cS Δ) = true) ∧
  (∀ q ∈ txs, vk_R q.1 q.2.1 q.2.2.1 (cT Δ q.2.2.2) (cS Δ)) ∧
  (va_Z "java/util/ArrayList" "DEFAULTCAPACITY_EMPTY_ELEMENTDATA" "[Ljava/lang/Object;" (.ref (cT Δ 99)) (fun q => n0 Δ ≤ q) (cS Δ) (cS Δ).heap ∧ va_Z "java/lang/String" "COMPACT_STRINGS" "Z" (.int 1) (fun q => n0 Δ ≤ q) (cS Δ) (cS Δ).heap ∧ va_Zq "jdk/internal/util/Preconditions" "SIOOBE_FORMATTER" "Ljava/util/function/BiFunction;" (fun q => n0 Δ ≤ q) (cS Δ) (cS Δ).heap) ∧
  va_Mi "[Ljava/lang/Object;" (cT Δ 98) (cS Δ)
/-- a method: the class that owns the code, its name, its bytes, its locals, what it returns -/
abbrev Mi : Type := String × MethodName × ByteArray × Nat × Option FieldType
def Bd (Δ : Cx) (μ : Mi) (p : Program) (s : State) (m : MethodId) (args : Array Value) (meth : Method) (c : Code) : Prop :=
  okCx Δ ∧ p.tables.exec = Jvm.exec ∧ c.code = μ.2.2.1 ∧ meth.sig.returnType = μ.2.2.2.2 ∧ meth.locks = false ∧ c.maxLocals = μ.2.2.2.1 ∧ s.vm.findClass μ.1 = some m.cls ∧ meth.name = μ.2.1.name ∧ (cS Δ).WarmedH s.vm ∧ (∀ w ∈ lw_all, w.before args s = true) ∧ n0 Δ ≤ s.heap.size
def rmd (d mc ms : Nat) : Room := { frames := d, cells := mc, slots := ms, locals := 64 * d + 24 }
def QR (Δ : Cx) (v : Option Value) (h' : Hp) : Array Value → State → Outcome → State → Prop := fun _ _ o t => o = .returned v ∧ Rl Δ h' t.heap
/-- the method, called over the world h, answers v and leaves h' -/
def Sp (Δ : Cx) (d : Nat) (μ : Mi) (av : List Value) (h : Hp) (v : Option Value) (h' : Hp) : Prop :=
  okCx Δ → ∀ mc ms : Nat, h.1 + mc = h'.1 → h.2.1 + ms = h'.2.1 →
    Met (cL Δ) μ.2.1 (ws_ μ.2.1 μ.2.2.1 μ.2.2.2.1 μ.2.2.2.2) (rmd d mc ms) (fun a U => a = av.toArray ∧ Rl Δ h U.heap ∧ (cS Δ).WarmedH U.vm) (QR Δ v h') mc ms (fun q => n0 Δ ≤ q)
/-- the machine at pc, over the world h, comes to the method's end with v and h' -/
def G (Δ : Cx) (d : Nat) (μ : Mi) (pc : Nat) (lv : List (Nat × Value)) (st : List Value) (h : Hp) (v : Option Value) (h' : Hp) : Prop :=
  ∀ (p : Program) (e : Env) (s : State) (m : MethodId) (args : Array Value) (below : List Frame) (meth : Method) (c : Code) (H : Heap) (locs : List Loc) (cells slots : Nat) (ls : Array Slot) (mc ms : Nat),
    Bd Δ μ p s m args meth c → Rl Δ h H → lv_has ls μ.2.2.2.1 lv → (∀ q ∈ locs, n0 Δ ≤ q.base) → cells + h'.1 = mc + h.1 → slots + h'.2.1 = ms + h.2.1 →
    W p (cL Δ) e (rmd d mc ms) s m args below meth c H locs cells slots (MQ below (QR Δ v h') args s mc ms (fun q => n0 Δ ≤ q)) (F0 m pc ls st)
def wp (Δ : Cx) (d : Nat) (μ : Mi) (pc : Nat) (lv : List (Nat × Value)) (st : List Value) (h : Hp) (Q : Option Value → Hp → Prop) : Prop :=
  n0 Δ ≤ h.1 → ∃ (v : Option Value) (h' : Hp), h.1 ≤ h'.1 ∧ h.2.1 ≤ h'.2.1 ∧ Q v h' ∧ G Δ d μ pc lv st h v h'
def mt (Δ : Cx) (d : Nat) (μ : Mi) (av : List Value) (h : Hp) (Q : Option Value → Hp → Prop) : Prop :=
  n0 Δ ≤ h.1 → ∃ (v : Option Value) (h' : Hp), h.1 ≤ h'.1 ∧ h.2.1 ≤ h'.2.1 ∧ Q v h' ∧ Sp Δ d μ av h v h'
section GR
variable {Δ : Cx} {d : Nat} {μ : Mi} {pc : Nat} {lv lv' : List (Nat × Value)} {st : List Value} {h : Hp} {Q : Option Value → Hp → Prop}
theorem wp.on {pc' : Nat} {st' : List Value} (k : wp Δ d μ pc' lv' st' h Q) (f : ∀ v h', G Δ d μ pc' lv' st' h v h' → G Δ d μ pc lv st h v h') : wp Δ d μ pc lv st h Q := by
  intro hn
  obtain ⟨v, h', a, b, c, g⟩ := k hn
  exact ⟨v, h', a, b, c, f v h' g⟩
theorem wp.mono {Q' : Option Value → Hp → Prop} (k : wp Δ d μ pc lv st h Q') (f : ∀ v h', h.1 ≤ h'.1 → h.2.1 ≤ h'.2.1 → Q' v h' → Q v h') : wp Δ d μ pc lv st h Q := by
  intro hn
  obtain ⟨v, h', a, b, c, g⟩ := k hn
  exact ⟨v, h', a, b, f v h' a b c, g⟩
theorem mt.mono {av : List Value} {Q' : Option Value → Hp → Prop} (k : mt Δ d μ av h Q') (f : ∀ v h', h.1 ≤ h'.1 → h.2.1 ≤ h'.2.1 → Q' v h' → Q v h') : mt Δ d μ av h Q := by
  intro hn
  obtain ⟨v, h', a, b, c, g⟩ := k hn
  exact ⟨v, h', a, b, f v h' a b c, g⟩
theorem wp.know (k : n0 Δ ≤ h.1 → wp Δ d μ pc lv st h Q) : wp Δ d μ pc lv st h Q := fun hn => k hn hn
/-- fewer locals, or in another order -/
theorem g_lv (ks : List Nat) (hs : lv_pick lv ks = lv') (k : wp Δ d μ pc lv' st h Q) : wp Δ d μ pc lv st h Q :=
  k.on fun v h' g p e s m args below meth c H locs cells slots ls mc ms B hR hl hL e1 e2 => g p e s m args below meth c H locs cells slots ls mc ms B hR (lv_sub hl ks hs) hL e1 e2

theorem g_iconst {n : Int} {x : Int32}  (dg : decode μ.2.2.1 pc = .ok (.iconst n, 1)) (hv : Int32.ofInt n = x) (k : wp Δ d μ (pc + 1) lv (.int x :: st) h Q) : wp Δ d μ pc lv (st) h Q :=
  k.on fun v h' g p e s m args below meth c H locs cells slots ls mc ms B hR hl hL e1 e2 => lv_iconst B.2.1 B.2.2.1 dg hv (g p e s m args below meth c H locs cells slots ls mc ms B hR hl hL e1 e2)
theorem g_bipush {n : Int} {x : Int32}  (dg : decode μ.2.2.1 pc = .ok (.bipush n, 2)) (hv : (Int8.ofInt n).toInt32 = x) (k : wp Δ d μ (pc + 2) lv (.int x :: st) h Q) : wp Δ d μ pc lv (st) h Q :=
  k.on fun v h' g p e s m args below meth c H locs cells slots ls mc ms B hR hl hL e1 e2 => lv_bipush B.2.1 B.2.2.1 dg hv (g p e s m args below meth c H locs cells slots ls mc ms B hR hl hL e1 e2)
theorem g_sipush {n : Int} {x : Int32}  (dg : decode μ.2.2.1 pc = .ok (.sipush n, 3)) (hv : (Int16.ofInt n).toInt32 = x) (k : wp Δ d μ (pc + 3) lv (.int x :: st) h Q) : wp Δ d μ pc lv (st) h Q :=
  k.on fun v h' g p e s m args below meth c H locs cells slots ls mc ms B hR hl hL e1 e2 => lv_sipush B.2.1 B.2.2.1 dg hv (g p e s m args below meth c H locs cells slots ls mc ms B hR hl hL e1 e2)
theorem g_lconst {n : Fin 2} {x : Int64}  (dg : decode μ.2.2.1 pc = .ok (.lconst n, 1)) (hv : Int64.ofNat (n : Nat) = x) (k : wp Δ d μ (pc + 1) lv (.long x :: st) h Q) : wp Δ d μ pc lv (st) h Q :=
  k.on fun v h' g p e s m args below meth c H locs cells slots ls mc ms B hR hl hL e1 e2 => lv_lconst B.2.1 B.2.2.1 dg hv (g p e s m args below meth c H locs cells slots ls mc ms B hR hl hL e1 e2)
theorem g_ldc {i : Nat} {x : Int32}  (dg : decode μ.2.2.1 pc = .ok (.ldc i, 2)) (hw : Cond.constant μ.1 i x ∈ lw_all) (k : wp Δ d μ (pc + 2) lv (.int x :: st) h Q) : wp Δ d μ pc lv (st) h Q :=
  k.on fun v h' g p e s m args below meth c H locs cells slots ls mc ms B hR hl hL e1 e2 => lv_ldc B.2.1 B.2.2.1 B.2.2.2.2.2.2.1 (B.2.2.2.2.2.2.2.2.2.1 _ hw) dg (g p e s m args below meth c H locs cells slots ls mc ms B hR hl hL e1 e2)
theorem g_ldcw {i : Nat} {x : Int32}  (dg : decode μ.2.2.1 pc = .ok (.ldc_w i, 3)) (hw : Cond.constant μ.1 i x ∈ lw_all) (k : wp Δ d μ (pc + 3) lv (.int x :: st) h Q) : wp Δ d μ pc lv (st) h Q :=
  k.on fun v h' g p e s m args below meth c H locs cells slots ls mc ms B hR hl hL e1 e2 => lv_ldcw B.2.1 B.2.2.1 B.2.2.2.2.2.2.1 (B.2.2.2.2.2.2.2.2.2.1 _ hw) dg (g p e s m args below meth c H locs cells slots ls mc ms B hR hl hL e1 e2)
theorem g_ldc2 {i : Nat} {x : Int64}  (dg : decode μ.2.2.1 pc = .ok (.ldc2_w i, 3)) (hw : Cond.constantLong μ.1 i x ∈ lw_all) (k : wp Δ d μ (pc + 3) lv (.long x :: st) h Q) : wp Δ d μ pc lv (st) h Q :=
  k.on fun v h' g p e s m args below meth c H locs cells slots ls mc ms B hR hl hL e1 e2 => lv_ldc2 B.2.1 B.2.2.1 B.2.2.2.2.2.2.1 (B.2.2.2.2.2.2.2.2.2.1 _ hw) dg (g p e s m args below meth c H locs cells slots ls mc ms B hR hl hL e1 e2)
theorem g_null  (dg : decode μ.2.2.1 pc = .ok (.aconst_null, 1)) (k : wp Δ d μ (pc + 1) lv (.null :: st) h Q) : wp Δ d μ pc lv (st) h Q :=
  k.on fun v h' g p e s m args below meth c H locs cells slots ls mc ms B hR hl hL e1 e2 => lv_null B.2.1 B.2.2.1 dg (g p e s m args below meth c H locs cells slots ls mc ms B hR hl hL e1 e2)
theorem g_iload_n {k : Fin 4} {x : Int32}  (dg : decode μ.2.2.1 pc = .ok (.iload_n k, 1)) (j : Nat) (hj : lv[j]? = some ((k : Nat), .int x)) (k : wp Δ d μ (pc + 1) lv (.int x :: st) h Q) : wp Δ d μ pc lv (st) h Q :=
  k.on fun v h' g p e s m args below meth c H locs cells slots ls mc ms B hR hl hL e1 e2 => lv_iload_n B.2.1 B.2.2.1 dg rfl (lv_at hl j (hj.trans (by rfl))) (g p e s m args below meth c H locs cells slots ls mc ms B hR hl hL e1 e2)
theorem g_iload {i : Nat} {x : Int32}  (dg : decode μ.2.2.1 pc = .ok (.iload i, 2)) (j : Nat) (hj : lv[j]? = some (i, .int x)) (k : wp Δ d μ (pc + 2) lv (.int x :: st) h Q) : wp Δ d μ pc lv (st) h Q :=
  k.on fun v h' g p e s m args below meth c H locs cells slots ls mc ms B hR hl hL e1 e2 => lv_iload B.2.1 B.2.2.1 dg (lv_at hl j hj) (g p e s m args below meth c H locs cells slots ls mc ms B hR hl hL e1 e2)
theorem g_lload_n {k : Fin 4} {x : Int64}  (dg : decode μ.2.2.1 pc = .ok (.lload_n k, 1)) (j : Nat) (hj : lv[j]? = some ((k : Nat), .long x)) (k : wp Δ d μ (pc + 1) lv (.long x :: st) h Q) : wp Δ d μ pc lv (st) h Q :=
  k.on fun v h' g p e s m args below meth c H locs cells slots ls mc ms B hR hl hL e1 e2 => lv_lload_n B.2.1 B.2.2.1 dg rfl (lv_at hl j (hj.trans (by rfl))) (g p e s m args below meth c H locs cells slots ls mc ms B hR hl hL e1 e2)
theorem g_lload {i : Nat} {x : Int64}  (dg : decode μ.2.2.1 pc = .ok (.lload i, 2)) (j : Nat) (hj : lv[j]? = some (i, .long x)) (k : wp Δ d μ (pc + 2) lv (.long x :: st) h Q) : wp Δ d μ pc lv (st) h Q :=
  k.on fun v h' g p e s m args below meth c H locs cells slots ls mc ms B hR hl hL e1 e2 => lv_lload B.2.1 B.2.2.1 dg (lv_at hl j hj) (g p e s m args below meth c H locs cells slots ls mc ms B hR hl hL e1 e2)
theorem g_aload_n {k : Fin 4} {x : Nat}  (dg : decode μ.2.2.1 pc = .ok (.aload_n k, 1)) (j : Nat) (hj : lv[j]? = some ((k : Nat), .ref x)) (k : wp Δ d μ (pc + 1) lv (.ref x :: st) h Q) : wp Δ d μ pc lv (st) h Q :=
  k.on fun v h' g p e s m args below meth c H locs cells slots ls mc ms B hR hl hL e1 e2 => lv_aload_n B.2.1 B.2.2.1 dg rfl (lv_at hl j (hj.trans (by rfl))) (g p e s m args below meth c H locs cells slots ls mc ms B hR hl hL e1 e2)
theorem g_aload {i : Nat} {x : Nat}  (dg : decode μ.2.2.1 pc = .ok (.aload i, 2)) (j : Nat) (hj : lv[j]? = some (i, .ref x)) (k : wp Δ d μ (pc + 2) lv (.ref x :: st) h Q) : wp Δ d μ pc lv (st) h Q :=
  k.on fun v h' g p e s m args below meth c H locs cells slots ls mc ms B hR hl hL e1 e2 => lv_aload B.2.1 B.2.2.1 dg (lv_at hl j hj) (g p e s m args below meth c H locs cells slots ls mc ms B hR hl hL e1 e2)
theorem g_aload_nN {k : Fin 4}  (dg : decode μ.2.2.1 pc = .ok (.aload_n k, 1)) (j : Nat) (hj : lv[j]? = some ((k : Nat), .null)) (k : wp Δ d μ (pc + 1) lv (.null :: st) h Q) : wp Δ d μ pc lv (st) h Q :=
  k.on fun v h' g p e s m args below meth c H locs cells slots ls mc ms B hR hl hL e1 e2 => lv_aload_nN B.2.1 B.2.2.1 dg rfl (lv_at hl j (hj.trans (by rfl))) (g p e s m args below meth c H locs cells slots ls mc ms B hR hl hL e1 e2)
theorem g_aloadN {i : Nat}  (dg : decode μ.2.2.1 pc = .ok (.aload i, 2)) (j : Nat) (hj : lv[j]? = some (i, .null)) (k : wp Δ d μ (pc + 2) lv (.null :: st) h Q) : wp Δ d μ pc lv (st) h Q :=
  k.on fun v h' g p e s m args below meth c H locs cells slots ls mc ms B hR hl hL e1 e2 => lv_aloadN B.2.1 B.2.2.1 dg (lv_at hl j hj) (g p e s m args below meth c H locs cells slots ls mc ms B hR hl hL e1 e2)
theorem g_istore_n {j : Fin 4} {x : Int32} (dg : decode μ.2.2.1 pc = .ok (.istore_n j, 1)) (hn : (j : Nat) < μ.2.2.2.1) (hl' : ((j : Nat), Value.int x) :: lv.filter (fun q => !(q.1 == (j : Nat)) && !(q.1 + 1 == (j : Nat) && q.2.category == 2)) = lv') (k : wp Δ d μ (pc + 1) lv' st h Q) : wp Δ d μ pc lv (Value.int x :: st) h Q :=
  k.on fun v h' g p e s m args below meth c H locs cells slots ls mc ms B hR hl hL e1 e2 => lv_istore_n B.2.1 B.2.2.1 dg rfl hl hn hl' (fun ls hl => g p e s m args below meth c H locs cells slots ls mc ms B hR hl hL e1 e2)
theorem g_istore {i : Nat} {x : Int32} (dg : decode μ.2.2.1 pc = .ok (.istore i, 2)) (hn : i < μ.2.2.2.1) (hl' : (i, Value.int x) :: lv.filter (fun q => !(q.1 == i) && !(q.1 + 1 == i && q.2.category == 2)) = lv') (k : wp Δ d μ (pc + 2) lv' st h Q) : wp Δ d μ pc lv (Value.int x :: st) h Q :=
  k.on fun v h' g p e s m args below meth c H locs cells slots ls mc ms B hR hl hL e1 e2 => lv_istore B.2.1 B.2.2.1 dg hl hn hl' (fun ls hl => g p e s m args below meth c H locs cells slots ls mc ms B hR hl hL e1 e2)
theorem g_lstore_n {j : Fin 4} {x : Int64} (dg : decode μ.2.2.1 pc = .ok (.lstore_n j, 1)) (hn : (j : Nat) + 1 < μ.2.2.2.1) (hl' : ((j : Nat), Value.long x) :: lv.filter (fun q => !(q.1 == (j : Nat)) && (!(q.1 == (j : Nat) + 1) && !(q.1 + 1 == (j : Nat) && q.2.category == 2))) = lv') (k : wp Δ d μ (pc + 1) lv' st h Q) : wp Δ d μ pc lv (Value.long x :: st) h Q :=
  k.on fun v h' g p e s m args below meth c H locs cells slots ls mc ms B hR hl hL e1 e2 => lv_lstore_n B.2.1 B.2.2.1 dg rfl hl hn hl' (fun ls hl => g p e s m args below meth c H locs cells slots ls mc ms B hR hl hL e1 e2)
theorem g_lstore {i : Nat} {x : Int64} (dg : decode μ.2.2.1 pc = .ok (.lstore i, 2)) (hn : i + 1 < μ.2.2.2.1) (hl' : (i, Value.long x) :: lv.filter (fun q => !(q.1 == i) && (!(q.1 == i + 1) && !(q.1 + 1 == i && q.2.category == 2))) = lv') (k : wp Δ d μ (pc + 2) lv' st h Q) : wp Δ d μ pc lv (Value.long x :: st) h Q :=
  k.on fun v h' g p e s m args below meth c H locs cells slots ls mc ms B hR hl hL e1 e2 => lv_lstore B.2.1 B.2.2.1 dg hl hn hl' (fun ls hl => g p e s m args below meth c H locs cells slots ls mc ms B hR hl hL e1 e2)
theorem g_astore_n {j : Fin 4} {x : Nat} (dg : decode μ.2.2.1 pc = .ok (.astore_n j, 1)) (hn : (j : Nat) < μ.2.2.2.1) (hl' : ((j : Nat), Value.ref x) :: lv.filter (fun q => !(q.1 == (j : Nat)) && !(q.1 + 1 == (j : Nat) && q.2.category == 2)) = lv') (k : wp Δ d μ (pc + 1) lv' st h Q) : wp Δ d μ pc lv (Value.ref x :: st) h Q :=
  k.on fun v h' g p e s m args below meth c H locs cells slots ls mc ms B hR hl hL e1 e2 => lv_astore_n B.2.1 B.2.2.1 dg rfl hl hn hl' (fun ls hl => g p e s m args below meth c H locs cells slots ls mc ms B hR hl hL e1 e2)
theorem g_astore {i : Nat} {x : Nat} (dg : decode μ.2.2.1 pc = .ok (.astore i, 2)) (hn : i < μ.2.2.2.1) (hl' : (i, Value.ref x) :: lv.filter (fun q => !(q.1 == i) && !(q.1 + 1 == i && q.2.category == 2)) = lv') (k : wp Δ d μ (pc + 2) lv' st h Q) : wp Δ d μ pc lv (Value.ref x :: st) h Q :=
  k.on fun v h' g p e s m args below meth c H locs cells slots ls mc ms B hR hl hL e1 e2 => lv_astore B.2.1 B.2.2.1 dg hl hn hl' (fun ls hl => g p e s m args below meth c H locs cells slots ls mc ms B hR hl hL e1 e2)
theorem g_astore_nN {j : Fin 4} (dg : decode μ.2.2.1 pc = .ok (.astore_n j, 1)) (hn : (j : Nat) < μ.2.2.2.1) (hl' : ((j : Nat), Value.null) :: lv.filter (fun q => !(q.1 == (j : Nat)) && !(q.1 + 1 == (j : Nat) && q.2.category == 2)) = lv') (k : wp Δ d μ (pc + 1) lv' st h Q) : wp Δ d μ pc lv (Value.null :: st) h Q :=
  k.on fun v h' g p e s m args below meth c H locs cells slots ls mc ms B hR hl hL e1 e2 => lv_astore_nN B.2.1 B.2.2.1 dg rfl hl hn hl' (fun ls hl => g p e s m args below meth c H locs cells slots ls mc ms B hR hl hL e1 e2)
theorem g_astoreN {i : Nat} (dg : decode μ.2.2.1 pc = .ok (.astore i, 2)) (hn : i < μ.2.2.2.1) (hl' : (i, Value.null) :: lv.filter (fun q => !(q.1 == i) && !(q.1 + 1 == i && q.2.category == 2)) = lv') (k : wp Δ d μ (pc + 2) lv' st h Q) : wp Δ d μ pc lv (Value.null :: st) h Q :=
  k.on fun v h' g p e s m args below meth c H locs cells slots ls mc ms B hR hl hL e1 e2 => lv_astoreN B.2.1 B.2.2.1 dg hl hn hl' (fun ls hl => g p e s m args below meth c H locs cells slots ls mc ms B hR hl hL e1 e2)
theorem g_iinc {i : Nat} {n : Int} {x z : Int32} (dg : decode μ.2.2.1 pc = .ok (.iinc i n, 3)) (j : Nat) (hj : lv[j]? = some (i, .int x)) (hz : x + Int32.ofInt n = z) (hn : i < μ.2.2.2.1) (hl' : (i, Value.int z) :: lv.filter (fun q => !(q.1 == i) && !(q.1 + 1 == i && q.2.category == 2)) = lv') (k : wp Δ d μ (pc + 3) lv' st h Q) : wp Δ d μ pc lv st h Q :=
  k.on fun v h' g p e s m args below meth c H locs cells slots ls mc ms B hR hl hL e1 e2 => lv_iinc B.2.1 B.2.2.1  dg hl (k := j) hj hz hn hl' (fun ls hl => g p e s m args below meth c H locs cells slots ls mc ms B hR hl hL e1 e2)
theorem g_iadd {x y : Int32} (dg : decode μ.2.2.1 pc = .ok (.iadd, 1)) (k : wp Δ d μ (pc + 1) lv (.int (x + y) :: st) h Q) : wp Δ d μ pc lv (.int y :: .int x :: st) h Q :=
  k.on fun v h' g p e s m args below meth c H locs cells slots ls mc ms B hR hl hL e1 e2 => lv_iadd B.2.1 B.2.2.1 dg (g p e s m args below meth c H locs cells slots ls mc ms B hR hl hL e1 e2)
theorem g_isub {x y : Int32} (dg : decode μ.2.2.1 pc = .ok (.isub, 1)) (k : wp Δ d μ (pc + 1) lv (.int (x - y) :: st) h Q) : wp Δ d μ pc lv (.int y :: .int x :: st) h Q :=
  k.on fun v h' g p e s m args below meth c H locs cells slots ls mc ms B hR hl hL e1 e2 => lv_isub B.2.1 B.2.2.1 dg (g p e s m args below meth c H locs cells slots ls mc ms B hR hl hL e1 e2)
theorem g_imul {x y : Int32} (dg : decode μ.2.2.1 pc = .ok (.imul, 1)) (k : wp Δ d μ (pc + 1) lv (.int (x * y) :: st) h Q) : wp Δ d μ pc lv (.int y :: .int x :: st) h Q :=
  k.on fun v h' g p e s m args below meth c H locs cells slots ls mc ms B hR hl hL e1 e2 => lv_imul B.2.1 B.2.2.1 dg (g p e s m args below meth c H locs cells slots ls mc ms B hR hl hL e1 e2)
theorem g_iand {x y : Int32} (dg : decode μ.2.2.1 pc = .ok (.iand, 1)) (k : wp Δ d μ (pc + 1) lv (.int (x &&& y) :: st) h Q) : wp Δ d μ pc lv (.int y :: .int x :: st) h Q :=
  k.on fun v h' g p e s m args below meth c H locs cells slots ls mc ms B hR hl hL e1 e2 => lv_iand B.2.1 B.2.2.1 dg (g p e s m args below meth c H locs cells slots ls mc ms B hR hl hL e1 e2)
theorem g_ior {x y : Int32} (dg : decode μ.2.2.1 pc = .ok (.ior, 1)) (k : wp Δ d μ (pc + 1) lv (.int (x ||| y) :: st) h Q) : wp Δ d μ pc lv (.int y :: .int x :: st) h Q :=
  k.on fun v h' g p e s m args below meth c H locs cells slots ls mc ms B hR hl hL e1 e2 => lv_ior B.2.1 B.2.2.1 dg (g p e s m args below meth c H locs cells slots ls mc ms B hR hl hL e1 e2)
theorem g_ixor {x y : Int32} (dg : decode μ.2.2.1 pc = .ok (.ixor, 1)) (k : wp Δ d μ (pc + 1) lv (.int (x ^^^ y) :: st) h Q) : wp Δ d μ pc lv (.int y :: .int x :: st) h Q :=
  k.on fun v h' g p e s m args below meth c H locs cells slots ls mc ms B hR hl hL e1 e2 => lv_ixor B.2.1 B.2.2.1 dg (g p e s m args below meth c H locs cells slots ls mc ms B hR hl hL e1 e2)
theorem g_ladd {x y : Int64} (dg : decode μ.2.2.1 pc = .ok (.ladd, 1)) (k : wp Δ d μ (pc + 1) lv (.long (x + y) :: st) h Q) : wp Δ d μ pc lv (.long y :: .long x :: st) h Q :=
  k.on fun v h' g p e s m args below meth c H locs cells slots ls mc ms B hR hl hL e1 e2 => lv_ladd B.2.1 B.2.2.1 dg (g p e s m args below meth c H locs cells slots ls mc ms B hR hl hL e1 e2)
theorem g_lsub {x y : Int64} (dg : decode μ.2.2.1 pc = .ok (.lsub, 1)) (k : wp Δ d μ (pc + 1) lv (.long (x - y) :: st) h Q) : wp Δ d μ pc lv (.long y :: .long x :: st) h Q :=
  k.on fun v h' g p e s m args below meth c H locs cells slots ls mc ms B hR hl hL e1 e2 => lv_lsub B.2.1 B.2.2.1 dg (g p e s m args below meth c H locs cells slots ls mc ms B hR hl hL e1 e2)
theorem g_lmul {x y : Int64} (dg : decode μ.2.2.1 pc = .ok (.lmul, 1)) (k : wp Δ d μ (pc + 1) lv (.long (x * y) :: st) h Q) : wp Δ d μ pc lv (.long y :: .long x :: st) h Q :=
  k.on fun v h' g p e s m args below meth c H locs cells slots ls mc ms B hR hl hL e1 e2 => lv_lmul B.2.1 B.2.2.1 dg (g p e s m args below meth c H locs cells slots ls mc ms B hR hl hL e1 e2)
theorem g_ineg {x : Int32} (dg : decode μ.2.2.1 pc = .ok (.ineg, 1)) (k : wp Δ d μ (pc + 1) lv (.int (-x) :: st) h Q) : wp Δ d μ pc lv (.int x :: st) h Q :=
  k.on fun v h' g p e s m args below meth c H locs cells slots ls mc ms B hR hl hL e1 e2 => lv_ineg B.2.1 B.2.2.1 dg (g p e s m args below meth c H locs cells slots ls mc ms B hR hl hL e1 e2)
theorem g_idiv {x y : Int32}  (dg : decode μ.2.2.1 pc = .ok (.idiv, 1)) (hne : ¬ y = 0) (k : wp Δ d μ (pc + 1) lv (.int (x / y) :: st) h Q) : wp Δ d μ pc lv (.int y :: .int x :: st) h Q :=
  k.on fun v h' g p e s m args below meth c H locs cells slots ls mc ms B hR hl hL e1 e2 => lv_idiv B.2.1 B.2.2.1 dg hne (g p e s m args below meth c H locs cells slots ls mc ms B hR hl hL e1 e2)
theorem g_irem {x y : Int32}  (dg : decode μ.2.2.1 pc = .ok (.irem, 1)) (hne : ¬ y = 0) (k : wp Δ d μ (pc + 1) lv (.int (x - x / y * y) :: st) h Q) : wp Δ d μ pc lv (.int y :: .int x :: st) h Q :=
  k.on fun v h' g p e s m args below meth c H locs cells slots ls mc ms B hR hl hL e1 e2 => lv_irem B.2.1 B.2.2.1 dg hne (g p e s m args below meth c H locs cells slots ls mc ms B hR hl hL e1 e2)
theorem g_ldiv {x y : Int64}  (dg : decode μ.2.2.1 pc = .ok (.ldiv, 1)) (hne : ¬ y = 0) (k : wp Δ d μ (pc + 1) lv (.long (x / y) :: st) h Q) : wp Δ d μ pc lv (.long y :: .long x :: st) h Q :=
  k.on fun v h' g p e s m args below meth c H locs cells slots ls mc ms B hR hl hL e1 e2 => lv_ldiv B.2.1 B.2.2.1 dg hne (g p e s m args below meth c H locs cells slots ls mc ms B hR hl hL e1 e2)
theorem g_lrem {x y : Int64}  (dg : decode μ.2.2.1 pc = .ok (.lrem, 1)) (hne : ¬ y = 0) (k : wp Δ d μ (pc + 1) lv (.long (x - x / y * y) :: st) h Q) : wp Δ d μ pc lv (.long y :: .long x :: st) h Q :=
  k.on fun v h' g p e s m args below meth c H locs cells slots ls mc ms B hR hl hL e1 e2 => lv_lrem B.2.1 B.2.2.1 dg hne (g p e s m args below meth c H locs cells slots ls mc ms B hR hl hL e1 e2)
theorem g_ishl {x y : Int32} (dg : decode μ.2.2.1 pc = .ok (.ishl, 1)) (k : wp Δ d μ (pc + 1) lv (.int (x <<< (y &&& 31)) :: st) h Q) : wp Δ d μ pc lv (.int y :: .int x :: st) h Q :=
  k.on fun v h' g p e s m args below meth c H locs cells slots ls mc ms B hR hl hL e1 e2 => lv_ishl B.2.1 B.2.2.1 dg (g p e s m args below meth c H locs cells slots ls mc ms B hR hl hL e1 e2)
theorem g_ishr {x y : Int32} (dg : decode μ.2.2.1 pc = .ok (.ishr, 1)) (k : wp Δ d μ (pc + 1) lv (.int (x >>> (y &&& 31)) :: st) h Q) : wp Δ d μ pc lv (.int y :: .int x :: st) h Q :=
  k.on fun v h' g p e s m args below meth c H locs cells slots ls mc ms B hR hl hL e1 e2 => lv_ishr B.2.1 B.2.2.1 dg (g p e s m args below meth c H locs cells slots ls mc ms B hR hl hL e1 e2)
theorem g_iushr {x y : Int32} (dg : decode μ.2.2.1 pc = .ok (.iushr, 1)) (k : wp Δ d μ (pc + 1) lv (.int ((x.toUInt32 >>> (y.toUInt32 &&& Int32.toUInt32 31)).toInt32) :: st) h Q) : wp Δ d μ pc lv (.int y :: .int x :: st) h Q :=
  k.on fun v h' g p e s m args below meth c H locs cells slots ls mc ms B hR hl hL e1 e2 => lv_iushr B.2.1 B.2.2.1 dg rfl (g p e s m args below meth c H locs cells slots ls mc ms B hR hl hL e1 e2)
theorem g_i2l {x : Int32} (dg : decode μ.2.2.1 pc = .ok (.i2l, 1)) (k : wp Δ d μ (pc + 1) lv (.long (x.toInt64) :: st) h Q) : wp Δ d μ pc lv (.int x :: st) h Q :=
  k.on fun v h' g p e s m args below meth c H locs cells slots ls mc ms B hR hl hL e1 e2 => lv_i2l B.2.1 B.2.2.1 dg rfl (g p e s m args below meth c H locs cells slots ls mc ms B hR hl hL e1 e2)
theorem g_l2i {x : Int64} (dg : decode μ.2.2.1 pc = .ok (.l2i, 1)) (k : wp Δ d μ (pc + 1) lv (.int (x.toInt32) :: st) h Q) : wp Δ d μ pc lv (.long x :: st) h Q :=
  k.on fun v h' g p e s m args below meth c H locs cells slots ls mc ms B hR hl hL e1 e2 => lv_l2i B.2.1 B.2.2.1 dg rfl (g p e s m args below meth c H locs cells slots ls mc ms B hR hl hL e1 e2)
theorem g_i2b {x : Int32} (dg : decode μ.2.2.1 pc = .ok (.i2b, 1)) (k : wp Δ d μ (pc + 1) lv (.int (x.toInt8.toInt32) :: st) h Q) : wp Δ d μ pc lv (.int x :: st) h Q :=
  k.on fun v h' g p e s m args below meth c H locs cells slots ls mc ms B hR hl hL e1 e2 => lv_i2b B.2.1 B.2.2.1 dg rfl (g p e s m args below meth c H locs cells slots ls mc ms B hR hl hL e1 e2)
theorem g_i2c {x : Int32} (dg : decode μ.2.2.1 pc = .ok (.i2c, 1)) (k : wp Δ d μ (pc + 1) lv (.int ((x.toUInt32 % 65536).toInt32) :: st) h Q) : wp Δ d μ pc lv (.int x :: st) h Q :=
  k.on fun v h' g p e s m args below meth c H locs cells slots ls mc ms B hR hl hL e1 e2 => lv_i2c B.2.1 B.2.2.1 dg rfl (g p e s m args below meth c H locs cells slots ls mc ms B hR hl hL e1 e2)
theorem g_lcmp {x y : Int64} (dg : decode μ.2.2.1 pc = .ok (.lcmp, 1)) (k : wp Δ d μ (pc + 1) lv (.int (lg_cmp x y) :: st) h Q) : wp Δ d μ pc lv (.long y :: .long x :: st) h Q :=
  k.on fun v h' g p e s m args below meth c H locs cells slots ls mc ms B hR hl hL e1 e2 => W.lcmp B.2.1 B.2.2.1 dg (g p e s m args below meth c H locs cells slots ls mc ms B hR hl hL e1 e2)
theorem g_dup {z : Value}  (dg : decode μ.2.2.1 pc = .ok (.dup, 1)) (hz : z.category = 1) (k : wp Δ d μ (pc + 1) lv (z :: z :: st) h Q) : wp Δ d μ pc lv (z :: st) h Q :=
  k.on fun v h' g p e s m args below meth c H locs cells slots ls mc ms B hR hl hL e1 e2 => lv_dup B.2.1 B.2.2.1 dg hz (g p e s m args below meth c H locs cells slots ls mc ms B hR hl hL e1 e2)
theorem g_pop {z : Value}  (dg : decode μ.2.2.1 pc = .ok (.pop, 1)) (hz : z.category = 1) (k : wp Δ d μ (pc + 1) lv (st) h Q) : wp Δ d μ pc lv (z :: st) h Q :=
  k.on fun v h' g p e s m args below meth c H locs cells slots ls mc ms B hR hl hL e1 e2 => lv_pop B.2.1 B.2.2.1 dg hz (g p e s m args below meth c H locs cells slots ls mc ms B hR hl hL e1 e2)
theorem g_dup2 {z y : Value}  (dg : decode μ.2.2.1 pc = .ok (.dup2, 1)) (hz : z.category = 1) (hy : y.category = 1) (k : wp Δ d μ (pc + 1) lv (z :: y :: z :: y :: st) h Q) : wp Δ d μ pc lv (z :: y :: st) h Q :=
  k.on fun v h' g p e s m args below meth c H locs cells slots ls mc ms B hR hl hL e1 e2 => lv_dup2_11 B.2.1 B.2.2.1 dg hz hy (g p e s m args below meth c H locs cells slots ls mc ms B hR hl hL e1 e2)
theorem g_dup2L {z : Value}  (dg : decode μ.2.2.1 pc = .ok (.dup2, 1)) (hz : z.category = 2) (k : wp Δ d μ (pc + 1) lv (z :: z :: st) h Q) : wp Δ d μ pc lv (z :: st) h Q :=
  k.on fun v h' g p e s m args below meth c H locs cells slots ls mc ms B hR hl hL e1 e2 => lv_dup2_2 B.2.1 B.2.2.1 dg hz (g p e s m args below meth c H locs cells slots ls mc ms B hR hl hL e1 e2)
theorem g_dup_x1 {z y : Value}  (dg : decode μ.2.2.1 pc = .ok (.dup_x1, 1)) (hz : z.category = 1) (hy : y.category = 1) (k : wp Δ d μ (pc + 1) lv (z :: y :: z :: st) h Q) : wp Δ d μ pc lv (z :: y :: st) h Q :=
  k.on fun v h' g p e s m args below meth c H locs cells slots ls mc ms B hR hl hL e1 e2 => lv_dup_x1 B.2.1 B.2.2.1 dg hz hy (g p e s m args below meth c H locs cells slots ls mc ms B hR hl hL e1 e2)
theorem g_if_eq {x : Int32} {off : Int} {tgt : Nat} (dg : decode μ.2.2.1 pc = .ok (.ifCond .eq off, 3)) (ht : (pc : Int) + off = (tgt : Int)) (kt : (x = 0) → wp Δ d μ tgt lv st h Q) (kf : ¬ (x = 0) → wp Δ d μ (pc + 3) lv st h Q) : wp Δ d μ pc lv (.int x :: st) h Q := by
  by_cases hc : (x = 0)
  · exact (kt hc).on fun v h' g p e s m args below meth c H locs cells slots ls mc ms B hR hl hL e1 e2 => lv_if_eq B.2.1 B.2.2.1 dg ht (fun _ => g p e s m args below meth c H locs cells slots ls mc ms B hR hl hL e1 e2) (fun q => absurd hc q)
  · exact (kf hc).on fun v h' g p e s m args below meth c H locs cells slots ls mc ms B hR hl hL e1 e2 => lv_if_eq B.2.1 B.2.2.1 dg ht (fun q => absurd q hc) (fun _ => g p e s m args below meth c H locs cells slots ls mc ms B hR hl hL e1 e2)
theorem g_if_lt {x : Int32} {off : Int} {tgt : Nat} (dg : decode μ.2.2.1 pc = .ok (.ifCond .lt off, 3)) (ht : (pc : Int) + off = (tgt : Int)) (kt : (x < 0) → wp Δ d μ tgt lv st h Q) (kf : ¬ (x < 0) → wp Δ d μ (pc + 3) lv st h Q) : wp Δ d μ pc lv (.int x :: st) h Q := by
  by_cases hc : (x < 0)
  · exact (kt hc).on fun v h' g p e s m args below meth c H locs cells slots ls mc ms B hR hl hL e1 e2 => lv_if_lt B.2.1 B.2.2.1 dg ht (fun _ => g p e s m args below meth c H locs cells slots ls mc ms B hR hl hL e1 e2) (fun q => absurd hc q)
  · exact (kf hc).on fun v h' g p e s m args below meth c H locs cells slots ls mc ms B hR hl hL e1 e2 => lv_if_lt B.2.1 B.2.2.1 dg ht (fun q => absurd q hc) (fun _ => g p e s m args below meth c H locs cells slots ls mc ms B hR hl hL e1 e2)
theorem g_if_ge {x : Int32} {off : Int} {tgt : Nat} (dg : decode μ.2.2.1 pc = .ok (.ifCond .ge off, 3)) (ht : (pc : Int) + off = (tgt : Int)) (kt : (0 ≤ x) → wp Δ d μ tgt lv st h Q) (kf : ¬ (0 ≤ x) → wp Δ d μ (pc + 3) lv st h Q) : wp Δ d μ pc lv (.int x :: st) h Q := by
  by_cases hc : (0 ≤ x)
  · exact (kt hc).on fun v h' g p e s m args below meth c H locs cells slots ls mc ms B hR hl hL e1 e2 => lv_if_ge B.2.1 B.2.2.1 dg ht (fun _ => g p e s m args below meth c H locs cells slots ls mc ms B hR hl hL e1 e2) (fun q => absurd hc q)
  · exact (kf hc).on fun v h' g p e s m args below meth c H locs cells slots ls mc ms B hR hl hL e1 e2 => lv_if_ge B.2.1 B.2.2.1 dg ht (fun q => absurd q hc) (fun _ => g p e s m args below meth c H locs cells slots ls mc ms B hR hl hL e1 e2)
theorem g_if_gt {x : Int32} {off : Int} {tgt : Nat} (dg : decode μ.2.2.1 pc = .ok (.ifCond .gt off, 3)) (ht : (pc : Int) + off = (tgt : Int)) (kt : (0 < x) → wp Δ d μ tgt lv st h Q) (kf : ¬ (0 < x) → wp Δ d μ (pc + 3) lv st h Q) : wp Δ d μ pc lv (.int x :: st) h Q := by
  by_cases hc : (0 < x)
  · exact (kt hc).on fun v h' g p e s m args below meth c H locs cells slots ls mc ms B hR hl hL e1 e2 => lv_if_gt B.2.1 B.2.2.1 dg ht (fun _ => g p e s m args below meth c H locs cells slots ls mc ms B hR hl hL e1 e2) (fun q => absurd hc q)
  · exact (kf hc).on fun v h' g p e s m args below meth c H locs cells slots ls mc ms B hR hl hL e1 e2 => lv_if_gt B.2.1 B.2.2.1 dg ht (fun q => absurd q hc) (fun _ => g p e s m args below meth c H locs cells slots ls mc ms B hR hl hL e1 e2)
theorem g_if_le {x : Int32} {off : Int} {tgt : Nat} (dg : decode μ.2.2.1 pc = .ok (.ifCond .le off, 3)) (ht : (pc : Int) + off = (tgt : Int)) (kt : (x ≤ 0) → wp Δ d μ tgt lv st h Q) (kf : ¬ (x ≤ 0) → wp Δ d μ (pc + 3) lv st h Q) : wp Δ d μ pc lv (.int x :: st) h Q := by
  by_cases hc : (x ≤ 0)
  · exact (kt hc).on fun v h' g p e s m args below meth c H locs cells slots ls mc ms B hR hl hL e1 e2 => lv_if_le B.2.1 B.2.2.1 dg ht (fun _ => g p e s m args below meth c H locs cells slots ls mc ms B hR hl hL e1 e2) (fun q => absurd hc q)
  · exact (kf hc).on fun v h' g p e s m args below meth c H locs cells slots ls mc ms B hR hl hL e1 e2 => lv_if_le B.2.1 B.2.2.1 dg ht (fun q => absurd q hc) (fun _ => g p e s m args below meth c H locs cells slots ls mc ms B hR hl hL e1 e2)
theorem g_icmp_eq {x y : Int32} {off : Int} {tgt : Nat} (dg : decode μ.2.2.1 pc = .ok (.if_icmp .eq off, 3)) (ht : (pc : Int) + off = (tgt : Int)) (kt : (x = y) → wp Δ d μ tgt lv st h Q) (kf : ¬ (x = y) → wp Δ d μ (pc + 3) lv st h Q) : wp Δ d μ pc lv (.int y :: .int x :: st) h Q := by
  by_cases hc : (x = y)
  · exact (kt hc).on fun v h' g p e s m args below meth c H locs cells slots ls mc ms B hR hl hL e1 e2 => lv_icmp_eq B.2.1 B.2.2.1 dg ht (fun _ => g p e s m args below meth c H locs cells slots ls mc ms B hR hl hL e1 e2) (fun q => absurd hc q)
  · exact (kf hc).on fun v h' g p e s m args below meth c H locs cells slots ls mc ms B hR hl hL e1 e2 => lv_icmp_eq B.2.1 B.2.2.1 dg ht (fun q => absurd q hc) (fun _ => g p e s m args below meth c H locs cells slots ls mc ms B hR hl hL e1 e2)
theorem g_icmp_lt {x y : Int32} {off : Int} {tgt : Nat} (dg : decode μ.2.2.1 pc = .ok (.if_icmp .lt off, 3)) (ht : (pc : Int) + off = (tgt : Int)) (kt : (x < y) → wp Δ d μ tgt lv st h Q) (kf : ¬ (x < y) → wp Δ d μ (pc + 3) lv st h Q) : wp Δ d μ pc lv (.int y :: .int x :: st) h Q := by
  by_cases hc : (x < y)
  · exact (kt hc).on fun v h' g p e s m args below meth c H locs cells slots ls mc ms B hR hl hL e1 e2 => lv_icmp_lt B.2.1 B.2.2.1 dg ht (fun _ => g p e s m args below meth c H locs cells slots ls mc ms B hR hl hL e1 e2) (fun q => absurd hc q)
  · exact (kf hc).on fun v h' g p e s m args below meth c H locs cells slots ls mc ms B hR hl hL e1 e2 => lv_icmp_lt B.2.1 B.2.2.1 dg ht (fun q => absurd q hc) (fun _ => g p e s m args below meth c H locs cells slots ls mc ms B hR hl hL e1 e2)
theorem g_icmp_ge {x y : Int32} {off : Int} {tgt : Nat} (dg : decode μ.2.2.1 pc = .ok (.if_icmp .ge off, 3)) (ht : (pc : Int) + off = (tgt : Int)) (kt : (y ≤ x) → wp Δ d μ tgt lv st h Q) (kf : ¬ (y ≤ x) → wp Δ d μ (pc + 3) lv st h Q) : wp Δ d μ pc lv (.int y :: .int x :: st) h Q := by
  by_cases hc : (y ≤ x)
  · exact (kt hc).on fun v h' g p e s m args below meth c H locs cells slots ls mc ms B hR hl hL e1 e2 => lv_icmp_ge B.2.1 B.2.2.1 dg ht (fun _ => g p e s m args below meth c H locs cells slots ls mc ms B hR hl hL e1 e2) (fun q => absurd hc q)
  · exact (kf hc).on fun v h' g p e s m args below meth c H locs cells slots ls mc ms B hR hl hL e1 e2 => lv_icmp_ge B.2.1 B.2.2.1 dg ht (fun q => absurd q hc) (fun _ => g p e s m args below meth c H locs cells slots ls mc ms B hR hl hL e1 e2)
theorem g_icmp_gt {x y : Int32} {off : Int} {tgt : Nat} (dg : decode μ.2.2.1 pc = .ok (.if_icmp .gt off, 3)) (ht : (pc : Int) + off = (tgt : Int)) (kt : (y < x) → wp Δ d μ tgt lv st h Q) (kf : ¬ (y < x) → wp Δ d μ (pc + 3) lv st h Q) : wp Δ d μ pc lv (.int y :: .int x :: st) h Q := by
  by_cases hc : (y < x)
  · exact (kt hc).on fun v h' g p e s m args below meth c H locs cells slots ls mc ms B hR hl hL e1 e2 => lv_icmp_gt B.2.1 B.2.2.1 dg ht (fun _ => g p e s m args below meth c H locs cells slots ls mc ms B hR hl hL e1 e2) (fun q => absurd hc q)
  · exact (kf hc).on fun v h' g p e s m args below meth c H locs cells slots ls mc ms B hR hl hL e1 e2 => lv_icmp_gt B.2.1 B.2.2.1 dg ht (fun q => absurd q hc) (fun _ => g p e s m args below meth c H locs cells slots ls mc ms B hR hl hL e1 e2)
theorem g_icmp_le {x y : Int32} {off : Int} {tgt : Nat} (dg : decode μ.2.2.1 pc = .ok (.if_icmp .le off, 3)) (ht : (pc : Int) + off = (tgt : Int)) (kt : (x ≤ y) → wp Δ d μ tgt lv st h Q) (kf : ¬ (x ≤ y) → wp Δ d μ (pc + 3) lv st h Q) : wp Δ d μ pc lv (.int y :: .int x :: st) h Q := by
  by_cases hc : (x ≤ y)
  · exact (kt hc).on fun v h' g p e s m args below meth c H locs cells slots ls mc ms B hR hl hL e1 e2 => lv_icmp_le B.2.1 B.2.2.1 dg ht (fun _ => g p e s m args below meth c H locs cells slots ls mc ms B hR hl hL e1 e2) (fun q => absurd hc q)
  · exact (kf hc).on fun v h' g p e s m args below meth c H locs cells slots ls mc ms B hR hl hL e1 e2 => lv_icmp_le B.2.1 B.2.2.1 dg ht (fun q => absurd q hc) (fun _ => g p e s m args below meth c H locs cells slots ls mc ms B hR hl hL e1 e2)
theorem g_if_ne {x : Int32} {off : Int} {tgt : Nat} (dg : decode μ.2.2.1 pc = .ok (.ifCond .ne off, 3)) (ht : (pc : Int) + off = (tgt : Int)) (kt : ¬ (x = 0) → wp Δ d μ tgt lv st h Q) (kf : (x = 0) → wp Δ d μ (pc + 3) lv st h Q) : wp Δ d μ pc lv (.int x :: st) h Q := by
  by_cases hc : (x = 0)
  · exact (kf hc).on fun v h' g p e s m args below meth c H locs cells slots ls mc ms B hR hl hL e1 e2 => lv_if_ne B.2.1 B.2.2.1 dg ht (fun q => absurd hc q) (fun _ => g p e s m args below meth c H locs cells slots ls mc ms B hR hl hL e1 e2)
  · exact (kt hc).on fun v h' g p e s m args below meth c H locs cells slots ls mc ms B hR hl hL e1 e2 => lv_if_ne B.2.1 B.2.2.1 dg ht (fun _ => g p e s m args below meth c H locs cells slots ls mc ms B hR hl hL e1 e2) (fun q => absurd q hc)
theorem g_icmp_ne {x y : Int32} {off : Int} {tgt : Nat} (dg : decode μ.2.2.1 pc = .ok (.if_icmp .ne off, 3)) (ht : (pc : Int) + off = (tgt : Int)) (kt : ¬ (x = y) → wp Δ d μ tgt lv st h Q) (kf : (x = y) → wp Δ d μ (pc + 3) lv st h Q) : wp Δ d μ pc lv (.int y :: .int x :: st) h Q := by
  by_cases hc : (x = y)
  · exact (kf hc).on fun v h' g p e s m args below meth c H locs cells slots ls mc ms B hR hl hL e1 e2 => lv_icmp_ne B.2.1 B.2.2.1 dg ht (fun q => absurd hc q) (fun _ => g p e s m args below meth c H locs cells slots ls mc ms B hR hl hL e1 e2)
  · exact (kt hc).on fun v h' g p e s m args below meth c H locs cells slots ls mc ms B hR hl hL e1 e2 => lv_icmp_ne B.2.1 B.2.2.1 dg ht (fun _ => g p e s m args below meth c H locs cells slots ls mc ms B hR hl hL e1 e2) (fun q => absurd q hc)
theorem g_goto {off : Int} {tgt : Nat} (dg : decode μ.2.2.1 pc = .ok (.goto off, 3)) (ht : (pc : Int) + off = (tgt : Int)) (k : wp Δ d μ tgt lv st h Q) : wp Δ d μ pc lv st h Q :=
  k.on fun v h' g p e s m args below meth c H locs cells slots ls mc ms B hR hl hL e1 e2 => lv_goto B.2.1 B.2.2.1  dg ht (g p e s m args below meth c H locs cells slots ls mc ms B hR hl hL e1 e2)
theorem g_ifnull {x : Nat} {off : Int} (dg : decode μ.2.2.1 pc = .ok (.ifnull off, 3)) (k : wp Δ d μ (pc + 3) lv (st) h Q) : wp Δ d μ pc lv (.ref x :: st) h Q :=
  k.on fun v h' g p e s m args below meth c H locs cells slots ls mc ms B hR hl hL e1 e2 => lv_ifnull B.2.1 B.2.2.1 dg (g p e s m args below meth c H locs cells slots ls mc ms B hR hl hL e1 e2)
theorem g_ifnonnullN {off : Int} (dg : decode μ.2.2.1 pc = .ok (.ifnonnull off, 3)) (k : wp Δ d μ (pc + 3) lv (st) h Q) : wp Δ d μ pc lv (.null :: st) h Q :=
  k.on fun v h' g p e s m args below meth c H locs cells slots ls mc ms B hR hl hL e1 e2 => lv_ifnonnullN B.2.1 B.2.2.1 dg (g p e s m args below meth c H locs cells slots ls mc ms B hR hl hL e1 e2)
theorem g_ifnonnull {x : Nat} {off : Int} {tgt : Nat} (dg : decode μ.2.2.1 pc = .ok (.ifnonnull off, 3)) (ht : (pc : Int) + off = (tgt : Int)) (k : wp Δ d μ tgt lv st h Q) : wp Δ d μ pc lv (.ref x :: st) h Q :=
  k.on fun v h' g p e s m args below meth c H locs cells slots ls mc ms B hR hl hL e1 e2 => lv_ifnonnull B.2.1 B.2.2.1  dg ht (g p e s m args below meth c H locs cells slots ls mc ms B hR hl hL e1 e2)
theorem g_ifnullN {off : Int} {tgt : Nat} (dg : decode μ.2.2.1 pc = .ok (.ifnull off, 3)) (ht : (pc : Int) + off = (tgt : Int)) (k : wp Δ d μ tgt lv st h Q) : wp Δ d μ pc lv (.null :: st) h Q :=
  k.on fun v h' g p e s m args below meth c H locs cells slots ls mc ms B hR hl hL e1 e2 => lv_ifnullN B.2.1 B.2.2.1  dg ht (g p e s m args below meth c H locs cells slots ls mc ms B hR hl hL e1 e2)
theorem g_tabIn {dflt lo hi : Int} {offs : Array Int} {len : Nat} {x : Int32} {off : Int} {tgt : Nat} (dg : decode μ.2.2.1 pc = .ok (.tableswitch dflt lo hi offs, len)) (h1 : ¬ x.toInt < lo) (h2 : ¬ hi < x.toInt) (ho : offs[(x.toInt - lo).toNat]? = some off) (ht : (pc : Int) + off = (tgt : Int)) (k : wp Δ d μ tgt lv st h Q) : wp Δ d μ pc lv (.int x :: st) h Q :=
  k.on fun v h' g p e s m args below meth c H locs cells slots ls mc ms B hR hl hL e1 e2 => lv_tableIn B.2.1 B.2.2.1  dg h1 h2 ho ht (g p e s m args below meth c H locs cells slots ls mc ms B hR hl hL e1 e2)
theorem g_tabOut {dflt lo hi : Int} {offs : Array Int} {len : Nat} {x : Int32} {tgt : Nat} (dg : decode μ.2.2.1 pc = .ok (.tableswitch dflt lo hi offs, len)) (h1 : x.toInt < lo ∨ hi < x.toInt) (ht : (pc : Int) + dflt = (tgt : Int)) (k : wp Δ d μ tgt lv st h Q) : wp Δ d μ pc lv (.int x :: st) h Q :=
  k.on fun v h' g p e s m args below meth c H locs cells slots ls mc ms B hR hl hL e1 e2 => lv_tableOut B.2.1 B.2.2.1  dg h1 ht (g p e s m args below meth c H locs cells slots ls mc ms B hR hl hL e1 e2)
theorem g_look {dflt : Int} {ps : Array (Int × Int)} {len : Nat} {x : Int32} {off : Int} {tgt : Nat} (dg : decode μ.2.2.1 pc = .ok (.lookupswitch dflt ps, len)) (hp : (ps.toList.zip (ps.toList.drop 1)).all (fun (a, next) => a.1 < next.1) = true) (ho : Op.lookupswitch.offset ps.toList dflt x.toInt = off) (ht : (pc : Int) + off = (tgt : Int)) (k : wp Δ d μ tgt lv st h Q) : wp Δ d μ pc lv (.int x :: st) h Q :=
  k.on fun v h' g p e s m args below meth c H locs cells slots ls mc ms B hR hl hL e1 e2 => lv_lookup B.2.1 B.2.2.1  dg hp ho ht (g p e s m args below meth c H locs cells slots ls mc ms B hR hl hL e1 e2)
end GR
