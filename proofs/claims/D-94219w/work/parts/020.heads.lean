set_option maxRecDepth 100000
def RJ0 : String := "java/util/AbstractCollection"
def RJ1 : String := "java/util/AbstractList"
def RJ10 : String := "java/util/Objects"
def RJ11 : String := "java/lang/Integer"
def RJ12 : String := "java/lang/Object"
def RJ2 : String := "java/util/ArrayList"
def TJ2 : u_T := fun k => match k with
  | 0 => ("java/util/AbstractList", "modCount", "I", false)
  | 1 => ("java/util/ArrayList", "elementData", "[Ljava/lang/Object;", false)
  | _ => ("java/util/ArrayList", "size", "I", false)
def tyJ2 : Nat → FieldType := fun k => match k with
  | 0 => .int
  | 1 => .array (.object "java/lang/Object")
  | _ => .int
abbrev wsJ20 : List Cond := u_ws RJ2 TJ2 3
theorem nmJ2 : ∀ a, a < 3 → ∀ b, b < 3 → a ≠ b → (TJ2 a).2.1 ≠ (TJ2 b).2.1 := by decide +kernel
theorem tyJ2_ok : ∀ k, k < 3 → parseFieldDescriptor (TJ2 k).2.2.1 = some (tyJ2 k) := by decide +kernel
def RJ3 : String := "java/lang/String"
def RJ4 : String := "java/lang/StringLatin1"
def RJ5 : String := "jdk/internal/util/Preconditions"
def RJ6 : String := "java/lang/StringUTF16"
def RJ7 : String := "java/lang/Math"
def RJ8 : String := "jdk/internal/util/ArraysSupport"
def RJ9 : String := "java/util/Arrays"
def RX0 : String := "LastSpeakers"
def TX0 : u_T := fun k => match k with
  | 0 => ("LastSpeakers", "text", "[B", true)
  | 1 => ("LastSpeakers", "textMany", "I", false)
  | 2 => ("LastSpeakers", "tongue", "LLastSpeakers$Tongue;", false)
  | 3 => ("LastSpeakers", "had", "I", false)
  | 4 => ("LastSpeakers", "hour", "I", false)
  | 5 => ("LastSpeakers", "last", "I", false)
  | 6 => ("LastSpeakers", "lots", "J", false)
  | 7 => ("LastSpeakers", "logs", "[LLastSpeakers$Entry;", true)
  | 8 => ("LastSpeakers", "logMany", "I", false)
  | 9 => ("LastSpeakers", "canAsk", "[Z", true)
  | 10 => ("LastSpeakers", "canEnd", "[Z", true)
  | 11 => ("LastSpeakers", "bestHeap", "I", false)
  | 12 => ("LastSpeakers", "bestWorth", "I", false)
  | 13 => ("LastSpeakers", "bestHours", "I", false)
  | 14 => ("LastSpeakers", "values", "[[[I", true)
  | 15 => ("LastSpeakers", "bestPerson", "I", false)
  | 16 => ("LastSpeakers", "bestThing", "I", false)
  | 17 => ("LastSpeakers", "rowPerson", "[I", true)
  | 18 => ("LastSpeakers", "rowThing", "[I", true)
  | 19 => ("LastSpeakers", "shares", "[J", true)
  | 20 => ("LastSpeakers", "shared", "[J", true)
  | 21 => ("LastSpeakers", "rowMany", "I", false)
  | 22 => ("LastSpeakers", "hearings", "[LLastSpeakers$Hearing;", true)
  | 23 => ("LastSpeakers", "books", "[[I", true)
  | 24 => ("LastSpeakers", "rights", "[[I", true)
  | 25 => ("LastSpeakers", "hearingMany", "I", false)
  | _ => ("LastSpeakers", "images", "[LLastSpeakers$Image;", true)
def tyX0 : Nat → FieldType := fun k => match k with
  | 0 => .array .byte
  | 1 => .int
  | 2 => .object "LastSpeakers$Tongue"
  | 3 => .int
  | 4 => .int
  | 5 => .int
  | 6 => .long
  | 7 => .array (.object "LastSpeakers$Entry")
  | 8 => .int
  | 9 => .array .boolean
  | 10 => .array .boolean
  | 11 => .int
  | 12 => .int
  | 13 => .int
  | 14 => .array (.array (.array .int))
  | 15 => .int
  | 16 => .int
  | 17 => .array .int
  | 18 => .array .int
  | 19 => .array .long
  | 20 => .array .long
  | 21 => .int
  | 22 => .array (.object "LastSpeakers$Hearing")
  | 23 => .array (.array .int)
  | 24 => .array (.array .int)
  | 25 => .int
  | _ => .array (.object "LastSpeakers$Image")
abbrev wsX00 : List Cond := u_ws RX0 TX0 27
theorem nmX0 : ∀ a, a < 27 → ∀ b, b < 27 → a ≠ b → (TX0 a).2.1 ≠ (TX0 b).2.1 := by decide +kernel
theorem tyX0_ok : ∀ k, k < 27 → parseFieldDescriptor (TX0 k).2.2.1 = some (tyX0 k) := by decide +kernel
def RX1 : String := "LastSpeakers$Entry"
def TX1 : u_T := fun k => match k with
  | 0 => ("LastSpeakers$Entry", "person", "I", false)
  | 1 => ("LastSpeakers$Entry", "thing", "I", false)
  | 2 => ("LastSpeakers$Entry", "hour", "I", false)
  | _ => ("LastSpeakers$Entry", "brought", "I", false)
def tyX1 : Nat → FieldType := fun k => match k with
  | 0 => .int
  | 1 => .int
  | 2 => .int
  | _ => .int
abbrev wsX10 : List Cond := u_ws RX1 TX1 4
theorem nmX1 : ∀ a, a < 4 → ∀ b, b < 4 → a ≠ b → (TX1 a).2.1 ≠ (TX1 b).2.1 := by decide +kernel
theorem tyX1_ok : ∀ k, k < 4 → parseFieldDescriptor (TX1 k).2.2.1 = some (tyX1 k) := by decide +kernel
def RX2 : String := "LastSpeakers$Hearing"
def TX2 : u_T := fun k => match k with
  | 0 => ("LastSpeakers$Hearing", "thing", "I", false)
  | 1 => ("LastSpeakers$Hearing", "person", "I", false)
  | 2 => ("LastSpeakers$Hearing", "version", "I", false)
  | _ => ("LastSpeakers$Hearing", "hint", "I", false)
def tyX2 : Nat → FieldType := fun k => match k with
  | 0 => .int
  | 1 => .int
  | 2 => .int
  | _ => .int
abbrev wsX20 : List Cond := u_ws RX2 TX2 4
theorem nmX2 : ∀ a, a < 4 → ∀ b, b < 4 → a ≠ b → (TX2 a).2.1 ≠ (TX2 b).2.1 := by decide +kernel
theorem tyX2_ok : ∀ k, k < 4 → parseFieldDescriptor (TX2 k).2.2.1 = some (tyX2 k) := by decide +kernel
def RX3 : String := "LastSpeakers$Image"
def TX3 : u_T := fun k => match k with
  | 0 => ("LastSpeakers$Image", "logs", "[LLastSpeakers$Entry;", true)
  | 1 => ("LastSpeakers$Image", "hearings", "[LLastSpeakers$Hearing;", true)
  | 2 => ("LastSpeakers$Image", "isThere", "[Z", true)
  | 3 => ("LastSpeakers$Image", "asked", "[I", true)
  | 4 => ("LastSpeakers$Image", "is", "Z", false)
  | 5 => ("LastSpeakers$Image", "had", "I", false)
  | 6 => ("LastSpeakers$Image", "hour", "I", false)
  | 7 => ("LastSpeakers$Image", "last", "I", false)
  | 8 => ("LastSpeakers$Image", "logMany", "I", false)
  | 9 => ("LastSpeakers$Image", "hearingMany", "I", false)
  | _ => ("LastSpeakers$Image", "lots", "J", false)
def tyX3 : Nat → FieldType := fun k => match k with
  | 0 => .array (.object "LastSpeakers$Entry")
  | 1 => .array (.object "LastSpeakers$Hearing")
  | 2 => .array .boolean
  | 3 => .array .int
  | 4 => .boolean
  | 5 => .int
  | 6 => .int
  | 7 => .int
  | 8 => .int
  | 9 => .int
  | _ => .long
abbrev wsX30 : List Cond := u_ws RX3 TX3 11
theorem nmX3 : ∀ a, a < 11 → ∀ b, b < 11 → a ≠ b → (TX3 a).2.1 ≠ (TX3 b).2.1 := by decide +kernel
theorem tyX3_ok : ∀ k, k < 11 → parseFieldDescriptor (TX3 k).2.2.1 = some (tyX3 k) := by decide +kernel
def RX4 : String := "LastSpeakersModel"
def TX4 : u_T := fun k => match k with
  | 0 => ("LastSpeakersModel", "text", "[B", true)
  | 1 => ("LastSpeakersModel", "size", "I", false)
  | 2 => ("LastSpeakersModel", "at", "I", false)
  | 3 => ("LastSpeakersModel", "kind", "I", false)
  | 4 => ("LastSpeakersModel", "tokenAt", "I", false)
  | 5 => ("LastSpeakersModel", "value", "J", false)
  | 6 => ("LastSpeakersModel", "newThings", "I", false)
  | 7 => ("LastSpeakersModel", "newThingName", "[J", true)
  | 8 => ("LastSpeakersModel", "newThing", "[I", true)
  | 9 => ("LastSpeakersModel", "newPeople", "I", false)
  | 10 => ("LastSpeakersModel", "newPersonName", "[J", true)
  | 11 => ("LastSpeakersModel", "newPerson", "[I", true)
  | 12 => ("LastSpeakersModel", "newKnows", "[I", true)
  | 13 => ("LastSpeakersModel", "newLean", "[I", true)
  | 14 => ("LastSpeakersModel", "newNear", "[I", true)
  | 15 => ("LastSpeakersModel", "newLeans", "I", false)
  | 16 => ("LastSpeakersModel", "newNears", "I", false)
  | 17 => ("LastSpeakersModel", "newFollows", "I", false)
  | 18 => ("LastSpeakersModel", "newFollow", "[I", true)
  | 19 => ("LastSpeakersModel", "newMonth", "I", false)
  | 20 => ("LastSpeakersModel", "things", "I", false)
  | 21 => ("LastSpeakersModel", "thing2", "[I", true)
  | 22 => ("LastSpeakersModel", "people", "I", false)
  | 23 => ("LastSpeakersModel", "stays", "[I", true)
  | 24 => ("LastSpeakersModel", "knows2", "[I", true)
  | 25 => ("LastSpeakersModel", "lean", "[I", true)
  | 26 => ("LastSpeakersModel", "near", "[I", true)
  | 27 => ("LastSpeakersModel", "followMany", "I", false)
  | 28 => ("LastSpeakersModel", "follow", "[I", true)
  | 29 => ("LastSpeakersModel", "month", "I", false)
  | 30 => ("LastSpeakersModel", "had", "I", false)
  | 31 => ("LastSpeakersModel", "hour", "I", false)
  | 32 => ("LastSpeakersModel", "there", "I", false)
  | 33 => ("LastSpeakersModel", "asked", "[I", true)
  | 34 => ("LastSpeakersModel", "lastThing", "I", false)
  | 35 => ("LastSpeakersModel", "logs", "I", false)
  | 36 => ("LastSpeakersModel", "logRow", "[I", true)
  | 37 => ("LastSpeakersModel", "hearings", "I", false)
  | 38 => ("LastSpeakersModel", "hearing", "[I", true)
  | 39 => ("LastSpeakersModel", "lot", "J", false)
  | 40 => ("LastSpeakersModel", "rowMany", "I", false)
  | 41 => ("LastSpeakersModel", "rowPerson", "[I", true)
  | 42 => ("LastSpeakersModel", "rowThing", "[I", true)
  | 43 => ("LastSpeakersModel", "bookVersion", "[I", true)
  | 44 => ("LastSpeakersModel", "bookRight", "[I", true)
  | 45 => ("LastSpeakersModel", "isImage", "[Z", true)
  | 46 => ("LastSpeakersModel", "imageHad", "[I", true)
  | 47 => ("LastSpeakersModel", "imageHour", "[I", true)
  | 48 => ("LastSpeakersModel", "imageThere", "[I", true)
  | 49 => ("LastSpeakersModel", "imageAsked", "[I", true)
  | 50 => ("LastSpeakersModel", "imageLast", "[I", true)
  | 51 => ("LastSpeakersModel", "imageLogs", "[I", true)
  | 52 => ("LastSpeakersModel", "imageLog", "[I", true)
  | 53 => ("LastSpeakersModel", "imageHearings", "[I", true)
  | 54 => ("LastSpeakersModel", "imageHearing", "[I", true)
  | 55 => ("LastSpeakersModel", "imageLot", "[J", true)
  | 56 => ("LastSpeakersModel", "told", "I", false)
  | 57 => ("LastSpeakersModel", "can", "[Z", true)
  | 58 => ("LastSpeakersModel", "hadWith", "[I", true)
  | 59 => ("LastSpeakersModel", "ends", "[Z", true)
  | 60 => ("LastSpeakersModel", "mean", "[I", true)
  | 61 => ("LastSpeakersModel", "weight", "[J", true)
  | _ => ("LastSpeakersModel", "newWeight", "[J", true)
def tyX4 : Nat → FieldType := fun k => match k with
  | 0 => .array .byte
  | 1 => .int
  | 2 => .int
  | 3 => .int
  | 4 => .int
  | 5 => .long
  | 6 => .int
  | 7 => .array .long
  | 8 => .array .int
  | 9 => .int
  | 10 => .array .long
  | 11 => .array .int
  | 12 => .array .int
  | 13 => .array .int
  | 14 => .array .int
  | 15 => .int
  | 16 => .int
  | 17 => .int
  | 18 => .array .int
  | 19 => .int
  | 20 => .int
  | 21 => .array .int
  | 22 => .int
  | 23 => .array .int
  | 24 => .array .int
  | 25 => .array .int
  | 26 => .array .int
  | 27 => .int
  | 28 => .array .int
  | 29 => .int
  | 30 => .int
  | 31 => .int
  | 32 => .int
  | 33 => .array .int
  | 34 => .int
  | 35 => .int
  | 36 => .array .int
  | 37 => .int
  | 38 => .array .int
  | 39 => .long
  | 40 => .int
  | 41 => .array .int
  | 42 => .array .int
  | 43 => .array .int
  | 44 => .array .int
  | 45 => .array .boolean
  | 46 => .array .int
  | 47 => .array .int
  | 48 => .array .int
  | 49 => .array .int
  | 50 => .array .int
  | 51 => .array .int
  | 52 => .array .int
  | 53 => .array .int
  | 54 => .array .int
  | 55 => .array .long
  | 56 => .int
  | 57 => .array .boolean
  | 58 => .array .int
  | 59 => .array .boolean
  | 60 => .array .int
  | 61 => .array .long
  | _ => .array .long
abbrev wsX40 : List Cond := u_ws RX4 TX4 63
theorem nmX4 : ∀ a, a < 63 → ∀ b, b < 63 → a ≠ b → (TX4 a).2.1 ≠ (TX4 b).2.1 := by decide +kernel
theorem tyX4_ok : ∀ k, k < 63 → parseFieldDescriptor (TX4 k).2.2.1 = some (tyX4 k) := by decide +kernel
def RX5 : String := "LastSpeakers$Reader"
def TX5 : u_T := fun k => match k with
  | 0 => ("LastSpeakers$Reader", "words", "[Ljava/lang/String;", true)
  | 1 => ("LastSpeakers$Reader", "text", "[B", true)
  | 2 => ("LastSpeakers$Reader", "many", "I", true)
  | 3 => ("LastSpeakers$Reader", "tongue", "LLastSpeakers$Tongue;", true)
  | 4 => ("LastSpeakers$Reader", "from", "I", false)
  | 5 => ("LastSpeakers$Reader", "to", "I", false)
  | 6 => ("LastSpeakers$Reader", "value", "I", false)
  | 7 => ("LastSpeakers$Reader", "fault", "I", false)
  | _ => ("LastSpeakers$Reader", "hasMonth", "Z", false)
def tyX5 : Nat → FieldType := fun k => match k with
  | 0 => .array (.object "java/lang/String")
  | 1 => .array .byte
  | 2 => .int
  | 3 => .object "LastSpeakers$Tongue"
  | 4 => .int
  | 5 => .int
  | 6 => .int
  | 7 => .int
  | _ => .boolean
abbrev wsX50 : List Cond := u_ws RX5 TX5 9
theorem nmX5 : ∀ a, a < 9 → ∀ b, b < 9 → a ≠ b → (TX5 a).2.1 ≠ (TX5 b).2.1 := by decide +kernel
theorem tyX5_ok : ∀ k, k < 9 → parseFieldDescriptor (TX5 k).2.2.1 = some (tyX5 k) := by decide +kernel
def RX6 : String := "LastSpeakers$Tongue"
def TX6 : u_T := fun k => match k with
  | 0 => ("LastSpeakers$Tongue", "names", "[J", true)
  | 1 => ("LastSpeakers$Tongue", "named", "[I", true)
  | 2 => ("LastSpeakers$Tongue", "things", "Ljava/util/ArrayList;", true)
  | 3 => ("LastSpeakers$Tongue", "people", "Ljava/util/ArrayList;", true)
  | 4 => ("LastSpeakers$Tongue", "follows", "Ljava/util/ArrayList;", true)
  | 5 => ("LastSpeakers$Tongue", "month", "I", false)
  | 6 => ("LastSpeakers$Tongue", "nameMany", "I", false)
  | 7 => ("LastSpeakers$Tongue", "leanMany", "I", false)
  | _ => ("LastSpeakers$Tongue", "nearMany", "I", false)
def tyX6 : Nat → FieldType := fun k => match k with
  | 0 => .array .long
  | 1 => .array .int
  | 2 => .object "java/util/ArrayList"
  | 3 => .object "java/util/ArrayList"
  | 4 => .object "java/util/ArrayList"
  | 5 => .int
  | 6 => .int
  | 7 => .int
  | _ => .int
abbrev wsX60 : List Cond := u_ws RX6 TX6 9
theorem nmX6 : ∀ a, a < 9 → ∀ b, b < 9 → a ≠ b → (TX6 a).2.1 ≠ (TX6 b).2.1 := by decide +kernel
theorem tyX6_ok : ∀ k, k < 9 → parseFieldDescriptor (TX6 k).2.2.1 = some (tyX6 k) := by decide +kernel
def RX7 : String := "LastSpeakers$Thing"
def TX7 : u_T := fun k => match k with
  | 0 => ("LastSpeakers$Thing", "worth", "I", true)
  | 1 => ("LastSpeakers$Thing", "hours", "I", true)
  | 2 => ("LastSpeakers$Thing", "leans", "I", false)
  | _ => ("LastSpeakers$Thing", "reminds", "I", false)
def tyX7 : Nat → FieldType := fun k => match k with
  | 0 => .int
  | 1 => .int
  | 2 => .int
  | _ => .int
abbrev wsX70 : List Cond := u_ws RX7 TX7 4
theorem nmX7 : ∀ a, a < 4 → ∀ b, b < 4 → a ≠ b → (TX7 a).2.1 ≠ (TX7 b).2.1 := by decide +kernel
theorem tyX7_ok : ∀ k, k < 4 → parseFieldDescriptor (TX7 k).2.2.1 = some (tyX7 k) := by decide +kernel
def RX8 : String := "LastSpeakers$Person"
def TX8 : u_T := fun k => match k with
  | 0 => ("LastSpeakers$Person", "stays", "I", true)
  | 1 => ("LastSpeakers$Person", "clear", "[I", true)
  | 2 => ("LastSpeakers$Person", "after", "[I", true)
  | 3 => ("LastSpeakers$Person", "isThere", "Z", false)
  | _ => ("LastSpeakers$Person", "asked", "I", false)
def tyX8 : Nat → FieldType := fun k => match k with
  | 0 => .int
  | 1 => .array .int
  | 2 => .array .int
  | 3 => .boolean
  | _ => .int
abbrev wsX80 : List Cond := u_ws RX8 TX8 5
theorem nmX8 : ∀ a, a < 5 → ∀ b, b < 5 → a ≠ b → (TX8 a).2.1 ≠ (TX8 b).2.1 := by decide +kernel
theorem tyX8_ok : ∀ k, k < 5 → parseFieldDescriptor (TX8 k).2.2.1 = some (tyX8 k) := by decide +kernel
def RX9 : String := "LastSpeakers$Follow"
def TX9 : u_T := fun k => match k with
  | 0 => ("LastSpeakers$Follow", "thing", "I", true)
  | _ => ("LastSpeakers$Follow", "of", "I", true)
def tyX9 : Nat → FieldType := fun k => match k with
  | 0 => .int
  | _ => .int
abbrev wsX90 : List Cond := u_ws RX9 TX9 2
theorem nmX9 : ∀ a, a < 2 → ∀ b, b < 2 → a ≠ b → (TX9 a).2.1 ≠ (TX9 b).2.1 := by decide +kernel
theorem tyX9_ok : ∀ k, k < 2 → parseFieldDescriptor (TX9 k).2.2.1 = some (tyX9 k) := by decide +kernel
abbrev cJ0_init : ByteArray := prog_25_method_1_code
def yJ0_init : MethodName := ⟨RJ0, "<init>", "()V"⟩
abbrev cJ1_init : ByteArray := prog_26_method_1_code
def yJ1_init : MethodName := ⟨RJ1, "<init>", "()V"⟩
abbrev cJ10_checkIndex : ByteArray := prog_31_method_17_code
def yJ10_checkIndex : MethodName := ⟨RJ10, "checkIndex", "(II)I"⟩
abbrev cJ11_bitCount : ByteArray := prog_16_method_49_code
def yJ11_bitCount : MethodName := ⟨RJ11, "bitCount", "(I)I"⟩
abbrev cJ12_init : ByteArray := object_method_1_code
def yJ12_init : MethodName := ⟨RJ12, "<init>", "()V"⟩
abbrev cJ2_init : ByteArray := prog_27_method_1_code
def yJ2_init : MethodName := ⟨RJ2, "<init>", "(I)V"⟩
abbrev cJ2_size : ByteArray := prog_27_method_8_code
def yJ2_size : MethodName := ⟨RJ2, "size", "()I"⟩
abbrev cJ2_add : ByteArray := prog_27_method_25_code
def yJ2_add : MethodName := ⟨RJ2, "add", "(Ljava/lang/Object;)Z"⟩
abbrev cJ2_add_2 : ByteArray := prog_27_method_24_code
def yJ2_add_2 : MethodName := ⟨RJ2, "add", "(Ljava/lang/Object;[Ljava/lang/Object;I)V"⟩
abbrev cJ2_grow : ByteArray := prog_27_method_7_code
def yJ2_grow : MethodName := ⟨RJ2, "grow", "()[Ljava/lang/Object;"⟩
abbrev cJ2_grow_2 : ByteArray := prog_27_method_6_code
def yJ2_grow_2 : MethodName := ⟨RJ2, "grow", "(I)[Ljava/lang/Object;"⟩
abbrev cJ2_get : ByteArray := prog_27_method_20_code
def yJ2_get : MethodName := ⟨RJ2, "get", "(I)Ljava/lang/Object;"⟩
abbrev cJ2_elementData : ByteArray := prog_27_method_18_code
def yJ2_elementData : MethodName := ⟨RJ2, "elementData", "(I)Ljava/lang/Object;"⟩
abbrev cJ2_isEmpty : ByteArray := prog_27_method_9_code
def yJ2_isEmpty : MethodName := ⟨RJ2, "isEmpty", "()Z"⟩
abbrev cJ3_length : ByteArray := prog_19_method_54_code
def yJ3_length : MethodName := ⟨RJ3, "length", "()I"⟩
abbrev cJ3_coder : ByteArray := prog_19_method_152_code
def yJ3_coder : MethodName := ⟨RJ3, "coder", "()B"⟩
abbrev cJ3_charAt : ByteArray := prog_19_method_56_code
def yJ3_charAt : MethodName := ⟨RJ3, "charAt", "(I)C"⟩
abbrev cJ3_isLatin1 : ByteArray := prog_19_method_154_code
def yJ3_isLatin1 : MethodName := ⟨RJ3, "isLatin1", "()Z"⟩
abbrev cJ3_checkIndex : ByteArray := prog_19_method_155_code
def yJ3_checkIndex : MethodName := ⟨RJ3, "checkIndex", "(II)V"⟩
abbrev cJ4_charAt : ByteArray := prog_20_method_2_code
def yJ4_charAt : MethodName := ⟨RJ4, "charAt", "([BI)C"⟩
abbrev cJ5_checkIndex : ByteArray := prog_35_method_11_code
def yJ5_checkIndex : MethodName := ⟨RJ5, "checkIndex", "(IILjava/util/function/BiFunction;)I"⟩
abbrev cJ6_charAt : ByteArray := prog_21_method_83_code
def yJ6_charAt : MethodName := ⟨RJ6, "charAt", "([BI)C"⟩
abbrev cJ6_checkIndex : ByteArray := prog_21_method_91_code
def yJ6_checkIndex : MethodName := ⟨RJ6, "checkIndex", "(I[B)V"⟩
abbrev cJ6_length : ByteArray := prog_21_method_6_code
def yJ6_length : MethodName := ⟨RJ6, "length", "([B)I"⟩
abbrev cJ6_getChar : ByteArray := prog_21_method_5_code
def yJ6_getChar : MethodName := ⟨RJ6, "getChar", "([BI)C"⟩
abbrev cJ7_min : ByteArray := prog_18_method_69_code
def yJ7_min : MethodName := ⟨RJ7, "min", "(II)I"⟩
abbrev cJ7_max : ByteArray := prog_18_method_65_code
def yJ7_max : MethodName := ⟨RJ7, "max", "(II)I"⟩
abbrev cJ8_newLength : ByteArray := prog_34_method_27_code
def yJ8_newLength : MethodName := ⟨RJ8, "newLength", "(III)I"⟩
abbrev cJ8_hugeLength : ByteArray := prog_34_method_28_code
def yJ8_hugeLength : MethodName := ⟨RJ8, "hugeLength", "(II)I"⟩
abbrev cJ9_copyOf : ByteArray := prog_28_method_119_code
def yJ9_copyOf : MethodName := ⟨RJ9, "copyOf", "([Ljava/lang/Object;I)[Ljava/lang/Object;"⟩
abbrev cJ9_copyOf_2 : ByteArray := prog_28_method_120_code
def yJ9_copyOf_2 : MethodName := ⟨RJ9, "copyOf", "([Ljava/lang/Object;ILjava/lang/Class;)[Ljava/lang/Object;"⟩
abbrev cL_law : ByteArray := code
abbrev cX0_feed : ByteArray := prog_1_method_3_code
def yX0_feed : MethodName := ⟨RX0, "feed", "(IIIII)I"⟩
abbrev cX0_feeds : ByteArray := prog_1_method_2_code
def yX0_feeds : MethodName := ⟨RX0, "feeds", "(I)V"⟩
abbrev cX0_end : ByteArray := prog_1_method_4_code
def yX0_end : MethodName := ⟨RX0, "end", "(I)Z"⟩
abbrev cX0_in : ByteArray := prog_1_method_1_code
def yX0_in : MethodName := ⟨RX0, "in", "(JJJ)Z"⟩
abbrev cX0_fault : ByteArray := prog_1_method_5_code
def yX0_fault : MethodName := ⟨RX0, "fault", "()I"⟩
abbrev cX0_init : ByteArray := prog_1_method_6_code
def yX0_init : MethodName := ⟨RX0, "<init>", "()V"⟩
abbrev cX0_tongue : ByteArray := prog_1_method_7_code
def yX0_tongue : MethodName := ⟨RX0, "tongue", "()I"⟩
abbrev cX0_thing : ByteArray := prog_1_method_15_code
def yX0_thing : MethodName := ⟨RX0, "thing", "(II)I"⟩
abbrev cX0_isThing : ByteArray := prog_1_method_9_code
def yX0_isThing : MethodName := ⟨RX0, "isThing", "(I)Z"⟩
abbrev cX0_many : ByteArray := prog_1_method_8_code
def yX0_many : MethodName := ⟨RX0, "many", "()I"⟩
abbrev cX0_at : ByteArray := prog_1_method_12_code
def yX0_at : MethodName := ⟨RX0, "at", "(I)LLastSpeakers$Thing;"⟩
abbrev cX0_isHad : ByteArray := prog_1_method_14_code
def yX0_isHad : MethodName := ⟨RX0, "isHad", "(I)Z"⟩
abbrev cX0_person : ByteArray := prog_1_method_16_code
def yX0_person : MethodName := ⟨RX0, "person", "(II)I"⟩
abbrev cX0_isPerson : ByteArray := prog_1_method_10_code
def yX0_isPerson : MethodName := ⟨RX0, "isPerson", "(I)Z"⟩
abbrev cX0_who : ByteArray := prog_1_method_13_code
def yX0_who : MethodName := ⟨RX0, "who", "(I)LLastSpeakers$Person;"⟩
abbrev cX0_knows : ByteArray := prog_1_method_17_code
def yX0_knows : MethodName := ⟨RX0, "knows", "(III)I"⟩
abbrev cX0_follows : ByteArray := prog_1_method_18_code
def yX0_follows : MethodName := ⟨RX0, "follows", "(I)I"⟩
abbrev cX0_isHeap : ByteArray := prog_1_method_11_code
def yX0_isHeap : MethodName := ⟨RX0, "isHeap", "(I)Z"⟩
abbrev cX0_have : ByteArray := prog_1_method_20_code
def yX0_have : MethodName := ⟨RX0, "have", "(I)I"⟩
abbrev cX0_brings : ByteArray := prog_1_method_19_code
def yX0_brings : MethodName := ⟨RX0, "brings", "(I)I"⟩
abbrev cX0_seed : ByteArray := prog_1_method_22_code
def yX0_seed : MethodName := ⟨RX0, "seed", "(I)Z"⟩
abbrev cX0_rest : ByteArray := prog_1_method_24_code
def yX0_rest : MethodName := ⟨RX0, "rest", "(I)I"⟩
abbrev cX0_passes : ByteArray := prog_1_method_23_code
def yX0_passes : MethodName := ⟨RX0, "passes", "(I)V"⟩
abbrev cX0_lot : ByteArray := prog_1_method_21_code
def yX0_lot : MethodName := ⟨RX0, "lot", "(I)I"⟩
abbrev cX0_may : ByteArray := prog_1_method_27_code
def yX0_may : MethodName := ⟨RX0, "may", "(II)I"⟩
abbrev cX0_mayNow : ByteArray := prog_1_method_26_code
def yX0_mayNow : MethodName := ⟨RX0, "mayNow", "(II)Z"⟩
abbrev cX0_canLean : ByteArray := prog_1_method_25_code
def yX0_canLean : MethodName := ⟨RX0, "canLean", "(II)Z"⟩
abbrev cX0_ask : ByteArray := prog_1_method_30_code
def yX0_ask : MethodName := ⟨RX0, "ask", "(II)I"⟩
abbrev cX0_spoon : ByteArray := prog_1_method_29_code
def yX0_spoon : MethodName := ⟨RX0, "spoon", "(LLastSpeakers$Person;)I"⟩
abbrev cX0_notes : ByteArray := prog_1_method_28_code
def yX0_notes : MethodName := ⟨RX0, "notes", "(III)V"⟩
abbrev cX0_log : ByteArray := prog_1_method_31_code
def yX0_log : MethodName := ⟨RX0, "log", "(II)I"⟩
abbrev cX0_most : ByteArray := prog_1_method_32_code
def yX0_most : MethodName := ⟨RX0, "most", "()I"⟩
abbrev cX0_best : ByteArray := prog_1_method_37_code
def yX0_best : MethodName := ⟨RX0, "best", "(II)I"⟩
abbrev cX0_areHours : ByteArray := prog_1_method_36_code
def yX0_areHours : MethodName := ⟨RX0, "areHours", "(I)Z"⟩
abbrev cX0_findsBest : ByteArray := prog_1_method_35_code
def yX0_findsBest : MethodName := ⟨RX0, "findsBest", "(II)V"⟩
abbrev cX0_known : ByteArray := prog_1_method_33_code
def yX0_known : MethodName := ⟨RX0, "known", "()I"⟩
abbrev cX0_isLast : ByteArray := prog_1_method_34_code
def yX0_isLast : MethodName := ⟨RX0, "isLast", "(IIII)Z"⟩
abbrev cX0_order : ByteArray := prog_1_method_38_code
def yX0_order : MethodName := ⟨RX0, "order", "(II)I"⟩
abbrev cX0_key : ByteArray := prog_1_method_39_code
def yX0_key : MethodName := ⟨RX0, "key", "(II)I"⟩
abbrev cX0_lost : ByteArray := prog_1_method_41_code
def yX0_lost : MethodName := ⟨RX0, "lost", "(I)I"⟩
abbrev cX0_lostNow : ByteArray := prog_1_method_40_code
def yX0_lostNow : MethodName := ⟨RX0, "lostNow", "()I"⟩
abbrev cX0_value : ByteArray := prog_1_method_48_code
def yX0_value : MethodName := ⟨RX0, "value", "(I)I"⟩
abbrev cX0_areLeft : ByteArray := prog_1_method_47_code
def yX0_areLeft : MethodName := ⟨RX0, "areLeft", "(I)Z"⟩
abbrev cX0_values : ByteArray := prog_1_method_42_code
def yX0_values : MethodName := ⟨RX0, "values", "(I)V"⟩
abbrev cX0_valueOf : ByteArray := prog_1_method_43_code
def yX0_valueOf : MethodName := ⟨RX0, "valueOf", "(III)I"⟩
abbrev cX0_asked : ByteArray := prog_1_method_44_code
def yX0_asked : MethodName := ⟨RX0, "asked", "(IIIII)I"⟩
abbrev cX0_mean : ByteArray := prog_1_method_45_code
def yX0_mean : MethodName := ⟨RX0, "mean", "(IIIZ)I"⟩
abbrev cX0_thereNow : ByteArray := prog_1_method_46_code
def yX0_thereNow : MethodName := ⟨RX0, "thereNow", "()I"⟩
abbrev cX0_next : ByteArray := prog_1_method_49_code
def yX0_next : MethodName := ⟨RX0, "next", "(I)I"⟩
abbrev cX0_plan : ByteArray := prog_1_method_50_code
def yX0_plan : MethodName := ⟨RX0, "plan", "(II)I"⟩
abbrev cX0_clear : ByteArray := prog_1_method_51_code
def yX0_clear : MethodName := ⟨RX0, "clear", "()I"⟩
abbrev cX0_judge : ByteArray := prog_1_method_55_code
def yX0_judge : MethodName := ⟨RX0, "judge", "(I)I"⟩
abbrev cX0_meanOfRow : ByteArray := prog_1_method_53_code
def yX0_meanOfRow : MethodName := ⟨RX0, "meanOfRow", "()I"⟩
abbrev cX0_canTell : ByteArray := prog_1_method_52_code
def yX0_canTell : MethodName := ⟨RX0, "canTell", "(I)Z"⟩
abbrev cX0_barred : ByteArray := prog_1_method_54_code
def yX0_barred : MethodName := ⟨RX0, "barred", "()I"⟩
abbrev cX0_hear : ByteArray := prog_1_method_57_code
def yX0_hear : MethodName := ⟨RX0, "hear", "(IIII)I"⟩
abbrev cX0_isVersion : ByteArray := prog_1_method_56_code
def yX0_isVersion : MethodName := ⟨RX0, "isVersion", "(I)Z"⟩
abbrev cX0_unhear : ByteArray := prog_1_method_58_code
def yX0_unhear : MethodName := ⟨RX0, "unhear", "()I"⟩
abbrev cX0_book : ByteArray := prog_1_method_59_code
def yX0_book : MethodName := ⟨RX0, "book", "(IIIZ)Z"⟩
abbrev cX0_version : ByteArray := prog_1_method_64_code
def yX0_version : MethodName := ⟨RX0, "version", "(II)I"⟩
abbrev cX0_sure : ByteArray := prog_1_method_62_code
def yX0_sure : MethodName := ⟨RX0, "sure", "(I)I"⟩
abbrev cX0_weight : ByteArray := prog_1_method_61_code
def yX0_weight : MethodName := ⟨RX0, "weight", "(II)I"⟩
abbrev cX0_weightBy : ByteArray := prog_1_method_60_code
def yX0_weightBy : MethodName := ⟨RX0, "weightBy", "(III)I"⟩
abbrev cX0_fill : ByteArray := prog_1_method_63_code
def yX0_fill : MethodName := ⟨RX0, "fill", "(I)I"⟩
abbrev cX0_again : ByteArray := prog_1_method_66_code
def yX0_again : MethodName := ⟨RX0, "again", "(I)I"⟩
abbrev cX0_heardOf : ByteArray := prog_1_method_65_code
def yX0_heardOf : MethodName := ⟨RX0, "heardOf", "(II)I"⟩
abbrev cX0_pleasing : ByteArray := prog_1_method_67_code
def yX0_pleasing : MethodName := ⟨RX0, "pleasing", "(I)I"⟩
abbrev cX0_right : ByteArray := prog_1_method_68_code
def yX0_right : MethodName := ⟨RX0, "right", "(Z)I"⟩
abbrev cX0_image : ByteArray := prog_1_method_69_code
def yX0_image : MethodName := ⟨RX0, "image", "(I)Z"⟩
abbrev cX0_on : ByteArray := prog_1_method_70_code
def yX0_on : MethodName := ⟨RX0, "on", "(I)Z"⟩
abbrev cX0_count : ByteArray := prog_1_method_71_code
def yX0_count : MethodName := ⟨RX0, "count", "(I)I"⟩
abbrev cX1_init : ByteArray := prog_2_method_1_code
def yX1_init : MethodName := ⟨RX1, "<init>", "()V"⟩
abbrev cX1_become : ByteArray := prog_2_method_2_code
def yX1_become : MethodName := ⟨RX1, "become", "(LLastSpeakers$Entry;)V"⟩
abbrev cX2_init : ByteArray := prog_4_method_1_code
def yX2_init : MethodName := ⟨RX2, "<init>", "()V"⟩
abbrev cX2_become : ByteArray := prog_4_method_2_code
def yX2_become : MethodName := ⟨RX2, "become", "(LLastSpeakers$Hearing;)V"⟩
abbrev cX3_init : ByteArray := prog_5_method_1_code
def yX3_init : MethodName := ⟨RX3, "<init>", "()V"⟩
abbrev cX4_init : ByteArray := prog_11_method_1_code
def yX4_init : MethodName := ⟨RX4, "<init>", "()V"⟩
abbrev cX4_feed : ByteArray := prog_11_method_3_code
def yX4_feed : MethodName := ⟨RX4, "feed", "(IIIII)I"⟩
abbrev cX4_end : ByteArray := prog_11_method_4_code
def yX4_end : MethodName := ⟨RX4, "end", "(I)Z"⟩
abbrev cX4_in : ByteArray := prog_11_method_2_code
def yX4_in : MethodName := ⟨RX4, "in", "(III)Z"⟩
abbrev cX4_fault : ByteArray := prog_11_method_22_code
def yX4_fault : MethodName := ⟨RX4, "fault", "()I"⟩
abbrev cX4_leads : ByteArray := prog_11_method_7_code
def yX4_leads : MethodName := ⟨RX4, "leads", "()V"⟩
abbrev cX4_isLetter : ByteArray := prog_11_method_5_code
def yX4_isLetter : MethodName := ⟨RX4, "isLetter", "(I)Z"⟩
abbrev cX4_isDigit : ByteArray := prog_11_method_6_code
def yX4_isDigit : MethodName := ⟨RX4, "isDigit", "(I)Z"⟩
abbrev cX4_lineHere : ByteArray := prog_11_method_21_code
def yX4_lineHere : MethodName := ⟨RX4, "lineHere", "()Z"⟩
abbrev cX4_isWord : ByteArray := prog_11_method_9_code
def yX4_isWord : MethodName := ⟨RX4, "isWord", "(Ljava/lang/String;)Z"⟩
abbrev cX4_packed : ByteArray := prog_11_method_8_code
def yX4_packed : MethodName := ⟨RX4, "packed", "(Ljava/lang/String;)J"⟩
abbrev cX4_thingLine : ByteArray := prog_11_method_15_code
def yX4_thingLine : MethodName := ⟨RX4, "thingLine", "()Z"⟩
abbrev cX4_isName : ByteArray := prog_11_method_10_code
def yX4_isName : MethodName := ⟨RX4, "isName", "()Z"⟩
abbrev cX4_thingHere : ByteArray := prog_11_method_11_code
def yX4_thingHere : MethodName := ⟨RX4, "thingHere", "()I"⟩
abbrev cX4_personHere : ByteArray := prog_11_method_12_code
def yX4_personHere : MethodName := ⟨RX4, "personHere", "()I"⟩
abbrev cX4_number : ByteArray := prog_11_method_13_code
def yX4_number : MethodName := ⟨RX4, "number", "(II)Z"⟩
abbrev cX4_closes : ByteArray := prog_11_method_14_code
def yX4_closes : MethodName := ⟨RX4, "closes", "()Z"⟩
abbrev cX4_personLine : ByteArray := prog_11_method_16_code
def yX4_personLine : MethodName := ⟨RX4, "personLine", "()Z"⟩
abbrev cX4_knowsLine : ByteArray := prog_11_method_17_code
def yX4_knowsLine : MethodName := ⟨RX4, "knowsLine", "()Z"⟩
abbrev cX4_followLine : ByteArray := prog_11_method_19_code
def yX4_followLine : MethodName := ⟨RX4, "followLine", "()Z"⟩
abbrev cX4_monthLine : ByteArray := prog_11_method_20_code
def yX4_monthLine : MethodName := ⟨RX4, "monthLine", "()Z"⟩
abbrev cX4_coupleLine : ByteArray := prog_11_method_18_code
def yX4_coupleLine : MethodName := ⟨RX4, "coupleLine", "([I)Z"⟩
abbrev cX4_tongue : ByteArray := prog_11_method_23_code
def yX4_tongue : MethodName := ⟨RX4, "tongue", "()I"⟩
abbrev cX4_thing : ByteArray := prog_11_method_33_code
def yX4_thing : MethodName := ⟨RX4, "thing", "(II)I"⟩
abbrev cX4_isThing : ByteArray := prog_11_method_24_code
def yX4_isThing : MethodName := ⟨RX4, "isThing", "(I)Z"⟩
abbrev cX4_worth : ByteArray := prog_11_method_27_code
def yX4_worth : MethodName := ⟨RX4, "worth", "(I)I"⟩
abbrev cX4_hours : ByteArray := prog_11_method_28_code
def yX4_hours : MethodName := ⟨RX4, "hours", "(I)I"⟩
abbrev cX4_has : ByteArray := prog_11_method_26_code
def yX4_has : MethodName := ⟨RX4, "has", "(II)Z"⟩
abbrev cX4_person : ByteArray := prog_11_method_34_code
def yX4_person : MethodName := ⟨RX4, "person", "(II)I"⟩
abbrev cX4_isPerson : ByteArray := prog_11_method_25_code
def yX4_isPerson : MethodName := ⟨RX4, "isPerson", "(I)Z"⟩
abbrev cX4_knows : ByteArray := prog_11_method_35_code
def yX4_knows : MethodName := ⟨RX4, "knows", "(III)I"⟩
abbrev cX4_clearly : ByteArray := prog_11_method_29_code
def yX4_clearly : MethodName := ⟨RX4, "clearly", "(II)I"⟩
abbrev cX4_follows : ByteArray := prog_11_method_37_code
def yX4_follows : MethodName := ⟨RX4, "follows", "(I)I"⟩
abbrev cX4_isHeap : ByteArray := prog_11_method_36_code
def yX4_isHeap : MethodName := ⟨RX4, "isHeap", "(I)Z"⟩
abbrev cX4_withFollows : ByteArray := prog_11_method_32_code
def yX4_withFollows : MethodName := ⟨RX4, "withFollows", "(II)I"⟩
abbrev cX4_have : ByteArray := prog_11_method_38_code
def yX4_have : MethodName := ⟨RX4, "have", "(I)I"⟩
abbrev cX4_ones : ByteArray := prog_11_method_31_code
def yX4_ones : MethodName := ⟨RX4, "ones", "(I)I"⟩
abbrev cX4_seed : ByteArray := prog_11_method_39_code
def yX4_seed : MethodName := ⟨RX4, "seed", "(I)Z"⟩
abbrev cX4_may : ByteArray := prog_11_method_42_code
def yX4_may : MethodName := ⟨RX4, "may", "(II)I"⟩
abbrev cX4_canAsk : ByteArray := prog_11_method_41_code
def yX4_canAsk : MethodName := ⟨RX4, "canAsk", "(II)Z"⟩
abbrev cX4_ask : ByteArray := prog_11_method_44_code
def yX4_ask : MethodName := ⟨RX4, "ask", "(II)I"⟩
abbrev cX4_draws : ByteArray := prog_11_method_40_code
def yX4_draws : MethodName := ⟨RX4, "draws", "(I)I"⟩
abbrev cX4_worths : ByteArray := prog_11_method_30_code
def yX4_worths : MethodName := ⟨RX4, "worths", "(I)I"⟩
abbrev cX4_passes : ByteArray := prog_11_method_43_code
def yX4_passes : MethodName := ⟨RX4, "passes", "(I)V"⟩
abbrev cX4_rest : ByteArray := prog_11_method_45_code
def yX4_rest : MethodName := ⟨RX4, "rest", "(I)I"⟩
abbrev cX4_log : ByteArray := prog_11_method_46_code
def yX4_log : MethodName := ⟨RX4, "log", "(II)I"⟩
abbrev cX4_best : ByteArray := prog_11_method_53_code
def yX4_best : MethodName := ⟨RX4, "best", "(II)I"⟩
abbrev cX4_isSureTime : ByteArray := prog_11_method_52_code
def yX4_isSureTime : MethodName := ⟨RX4, "isSureTime", "(I)Z"⟩
abbrev cX4_finds : ByteArray := prog_11_method_49_code
def yX4_finds : MethodName := ⟨RX4, "finds", "(I)V"⟩
abbrev cX4_goesOn : ByteArray := prog_11_method_48_code
def yX4_goesOn : MethodName := ⟨RX4, "goesOn", "(II)Z"⟩
abbrev cX4_somebodyKnows : ByteArray := prog_11_method_47_code
def yX4_somebodyKnows : MethodName := ⟨RX4, "somebodyKnows", "(I)Z"⟩
abbrev cX4_bestHeap : ByteArray := prog_11_method_51_code
def yX4_bestHeap : MethodName := ⟨RX4, "bestHeap", "(I)I"⟩
abbrev cX4_hoursOf : ByteArray := prog_11_method_50_code
def yX4_hoursOf : MethodName := ⟨RX4, "hoursOf", "(I)I"⟩
abbrev cX4_order : ByteArray := prog_11_method_54_code
def yX4_order : MethodName := ⟨RX4, "order", "(II)I"⟩
abbrev cX4_value : ByteArray := prog_11_method_60_code
def yX4_value : MethodName := ⟨RX4, "value", "(I)I"⟩
abbrev cX4_isMeanTime : ByteArray := prog_11_method_59_code
def yX4_isMeanTime : MethodName := ⟨RX4, "isMeanTime", "(I)Z"⟩
abbrev cX4_worksMean : ByteArray := prog_11_method_58_code
def yX4_worksMean : MethodName := ⟨RX4, "worksMean", "(I)V"⟩
abbrev cX4_worthOf : ByteArray := prog_11_method_57_code
def yX4_worthOf : MethodName := ⟨RX4, "worthOf", "(IIIII)I"⟩
abbrev cX4_behind : ByteArray := prog_11_method_56_code
def yX4_behind : MethodName := ⟨RX4, "behind", "(IIII)I"⟩
abbrev cX4_meanAt : ByteArray := prog_11_method_55_code
def yX4_meanAt : MethodName := ⟨RX4, "meanAt", "(III)I"⟩
abbrev cX4_next : ByteArray := prog_11_method_61_code
def yX4_next : MethodName := ⟨RX4, "next", "(I)I"⟩
abbrev cX4_plan : ByteArray := prog_11_method_62_code
def yX4_plan : MethodName := ⟨RX4, "plan", "(II)I"⟩
abbrev cX4_clear : ByteArray := prog_11_method_63_code
def yX4_clear : MethodName := ⟨RX4, "clear", "()I"⟩
abbrev cX4_judge : ByteArray := prog_11_method_66_code
def yX4_judge : MethodName := ⟨RX4, "judge", "(I)I"⟩
abbrev cX4_meanOfRow : ByteArray := prog_11_method_64_code
def yX4_meanOfRow : MethodName := ⟨RX4, "meanOfRow", "()I"⟩
abbrev cX4_barred : ByteArray := prog_11_method_65_code
def yX4_barred : MethodName := ⟨RX4, "barred", "()I"⟩
abbrev cX4_hear : ByteArray := prog_11_method_67_code
def yX4_hear : MethodName := ⟨RX4, "hear", "(IIII)I"⟩
abbrev cX4_unhear : ByteArray := prog_11_method_68_code
def yX4_unhear : MethodName := ⟨RX4, "unhear", "()I"⟩
abbrev cX4_book : ByteArray := prog_11_method_69_code
def yX4_book : MethodName := ⟨RX4, "book", "(IIIZ)Z"⟩
abbrev cX4_version : ByteArray := prog_11_method_73_code
def yX4_version : MethodName := ⟨RX4, "version", "(II)I"⟩
abbrev cX4_sureOf : ByteArray := prog_11_method_71_code
def yX4_sureOf : MethodName := ⟨RX4, "sureOf", "(I)I"⟩
abbrev cX4_weightOf : ByteArray := prog_11_method_70_code
def yX4_weightOf : MethodName := ⟨RX4, "weightOf", "(II)I"⟩
abbrev cX4_fillOf : ByteArray := prog_11_method_72_code
def yX4_fillOf : MethodName := ⟨RX4, "fillOf", "(I)I"⟩
abbrev cX4_again : ByteArray := prog_11_method_75_code
def yX4_again : MethodName := ⟨RX4, "again", "(I)I"⟩
abbrev cX4_heardOf : ByteArray := prog_11_method_74_code
def yX4_heardOf : MethodName := ⟨RX4, "heardOf", "(II)I"⟩
abbrev cX4_pleasing : ByteArray := prog_11_method_76_code
def yX4_pleasing : MethodName := ⟨RX4, "pleasing", "(I)I"⟩
abbrev cX4_right : ByteArray := prog_11_method_77_code
def yX4_right : MethodName := ⟨RX4, "right", "(Z)I"⟩
abbrev cX4_lost : ByteArray := prog_11_method_78_code
def yX4_lost : MethodName := ⟨RX4, "lost", "(I)I"⟩
abbrev cX4_most : ByteArray := prog_11_method_79_code
def yX4_most : MethodName := ⟨RX4, "most", "()I"⟩
abbrev cX4_key : ByteArray := prog_11_method_80_code
def yX4_key : MethodName := ⟨RX4, "key", "(II)I"⟩
abbrev cX4_image : ByteArray := prog_11_method_81_code
def yX4_image : MethodName := ⟨RX4, "image", "(I)Z"⟩
abbrev cX4_on : ByteArray := prog_11_method_82_code
def yX4_on : MethodName := ⟨RX4, "on", "(I)Z"⟩
abbrev cX4_count : ByteArray := prog_11_method_83_code
def yX4_count : MethodName := ⟨RX4, "count", "(I)I"⟩
abbrev cX5_init : ByteArray := prog_7_method_1_code
def yX5_init : MethodName := ⟨RX5, "<init>", "([BI)V"⟩
abbrev cX5_reads : ByteArray := prog_7_method_21_code
def yX5_reads : MethodName := ⟨RX5, "reads", "()I"⟩
abbrev cX5_next : ByteArray := prog_7_method_3_code
def yX5_next : MethodName := ⟨RX5, "next", "()V"⟩
abbrev cX5_isBetween : ByteArray := prog_7_method_2_code
def yX5_isBetween : MethodName := ⟨RX5, "isBetween", "(III)Z"⟩
abbrev cX5_line : ByteArray := prog_7_method_20_code
def yX5_line : MethodName := ⟨RX5, "line", "()Z"⟩
abbrev cX5_wordHere : ByteArray := prog_7_method_7_code
def yX5_wordHere : MethodName := ⟨RX5, "wordHere", "()I"⟩
abbrev cX5_isWord : ByteArray := prog_7_method_6_code
def yX5_isWord : MethodName := ⟨RX5, "isWord", "(Ljava/lang/String;)Z"⟩
abbrev cX5_hasRoom : ByteArray := prog_7_method_18_code
def yX5_hasRoom : MethodName := ⟨RX5, "hasRoom", "(I)Z"⟩
abbrev cX5_passes : ByteArray := prog_7_method_4_code
def yX5_passes : MethodName := ⟨RX5, "passes", "(Z)Z"⟩
abbrev cX5_told : ByteArray := prog_7_method_19_code
def yX5_told : MethodName := ⟨RX5, "told", "(I)Z"⟩
abbrev cX5_thing : ByteArray := prog_7_method_12_code
def yX5_thing : MethodName := ⟨RX5, "thing", "()Z"⟩
abbrev cX5_name : ByteArray := prog_7_method_9_code
def yX5_name : MethodName := ⟨RX5, "name", "()J"⟩
abbrev cX5_number : ByteArray := prog_7_method_8_code
def yX5_number : MethodName := ⟨RX5, "number", "(II)Z"⟩
abbrev cX5_person : ByteArray := prog_7_method_13_code
def yX5_person : MethodName := ⟨RX5, "person", "()Z"⟩
abbrev cX5_knows : ByteArray := prog_7_method_14_code
def yX5_knows : MethodName := ⟨RX5, "knows", "()Z"⟩
abbrev cX5_found : ByteArray := prog_7_method_10_code
def yX5_found : MethodName := ⟨RX5, "found", "()I"⟩
abbrev cX5_thingHere : ByteArray := prog_7_method_11_code
def yX5_thingHere : MethodName := ⟨RX5, "thingHere", "()I"⟩
abbrev cX5_leans : ByteArray := prog_7_method_15_code
def yX5_leans : MethodName := ⟨RX5, "leans", "()Z"⟩
abbrev cX5_reminds : ByteArray := prog_7_method_16_code
def yX5_reminds : MethodName := ⟨RX5, "reminds", "()Z"⟩
abbrev cX5_follows : ByteArray := prog_7_method_17_code
def yX5_follows : MethodName := ⟨RX5, "follows", "()Z"⟩
abbrev cX5_isSign : ByteArray := prog_7_method_5_code
def yX5_isSign : MethodName := ⟨RX5, "isSign", "(I)Z"⟩
abbrev cX6_init : ByteArray := prog_9_method_1_code
def yX6_init : MethodName := ⟨RX6, "<init>", "()V"⟩
abbrev cX6_find : ByteArray := prog_9_method_2_code
def yX6_find : MethodName := ⟨RX6, "find", "(J)I"⟩
abbrev cX6_adds : ByteArray := prog_9_method_3_code
def yX6_adds : MethodName := ⟨RX6, "adds", "(JI)V"⟩
abbrev cX6_closes : ByteArray := prog_9_method_4_code
def yX6_closes : MethodName := ⟨RX6, "closes", "(II)I"⟩
abbrev cX6_worth : ByteArray := prog_9_method_5_code
def yX6_worth : MethodName := ⟨RX6, "worth", "(I)I"⟩
abbrev cX6_hours : ByteArray := prog_9_method_6_code
def yX6_hours : MethodName := ⟨RX6, "hours", "(I)I"⟩
abbrev cX7_init : ByteArray := prog_8_method_1_code
def yX7_init : MethodName := ⟨RX7, "<init>", "(II)V"⟩
abbrev cX8_init : ByteArray := prog_6_method_1_code
def yX8_init : MethodName := ⟨RX8, "<init>", "(I)V"⟩
abbrev cX8_knows : ByteArray := prog_6_method_2_code
def yX8_knows : MethodName := ⟨RX8, "knows", "(I)Z"⟩
abbrev cX9_init : ByteArray := prog_3_method_1_code
def yX9_init : MethodName := ⟨RX9, "<init>", "(II)V"⟩
abbrev cX9_holds : ByteArray := prog_3_method_2_code
def yX9_holds : MethodName := ⟨RX9, "holds", "(I)Z"⟩
theorem q106 : (Jvm.Cond.initialized "java/util/AbstractCollection") ∈ lw_all := lw_g (lw_at lw_m1 8 rfl) rfl
theorem q174 : (Jvm.Cond.instanceMethod ({ cls := "java/util/AbstractCollection", name := "<init>", desc := "()V" } : Jvm.MethodName)) ∈ lw_all := lw_g (lw_at lw_m1 76 rfl) rfl
theorem q175 : (Jvm.Cond.code ({ cls := "java/util/AbstractCollection", name := "<init>", desc := "()V" } : Jvm.MethodName) prog_25_method_1_code (1 : Nat) (Option.none : Option Jvm.ClassFile.FieldType)) ∈ lw_all := lw_g (lw_at lw_m1 77 rfl) rfl
theorem q176 : (Jvm.Cond.methodLink "java/util/AbstractCollection" (1 : Nat) ({ cls := "java/lang/Object", name := "<init>", desc := "()V" } : Jvm.MethodName)) ∈ lw_all := lw_g (lw_at lw_m1 78 rfl) rfl
theorem q107 : (Jvm.Cond.initialized "java/util/AbstractList") ∈ lw_all := lw_g (lw_at lw_m1 9 rfl) rfl
theorem q171 : (Jvm.Cond.instanceMethod ({ cls := "java/util/AbstractList", name := "<init>", desc := "()V" } : Jvm.MethodName)) ∈ lw_all := lw_g (lw_at lw_m1 73 rfl) rfl
theorem q172 : (Jvm.Cond.code ({ cls := "java/util/AbstractList", name := "<init>", desc := "()V" } : Jvm.MethodName) prog_26_method_1_code (1 : Nat) (Option.none : Option Jvm.ClassFile.FieldType)) ∈ lw_all := lw_g (lw_at lw_m1 74 rfl) rfl
theorem q173 : (Jvm.Cond.methodLink "java/util/AbstractList" (1 : Nat) ({ cls := "java/util/AbstractCollection", name := "<init>", desc := "()V" } : Jvm.MethodName)) ∈ lw_all := lw_g (lw_at lw_m1 75 rfl) rfl
theorem q183 : (Jvm.Cond.fieldLink "java/util/AbstractList" (7 : Nat) "java/util/AbstractList" "modCount" "I") ∈ lw_all := lw_g (lw_at lw_m1 85 rfl) rfl
theorem q191 : (Jvm.Cond.soleField "java/util/AbstractList" "modCount") ∈ lw_all := lw_g (lw_at lw_m1 93 rfl) rfl
theorem q119 : (Jvm.Cond.initialized "java/util/Objects") ∈ lw_all := lw_g (lw_at lw_m1 21 rfl) rfl
theorem q501 : (Jvm.Cond.static ({ cls := "java/util/Objects", name := "checkIndex", desc := "(II)I" } : Jvm.MethodName)) ∈ lw_all := lw_g (lw_at lw_m2 163 rfl) rfl
theorem q502 : (Jvm.Cond.code ({ cls := "java/util/Objects", name := "checkIndex", desc := "(II)I" } : Jvm.MethodName) prog_31_method_17_code (2 : Nat) (Option.some Jvm.ClassFile.FieldType.int)) ∈ lw_all := lw_g (lw_at lw_m2 164 rfl) rfl
theorem q503 : (Jvm.Cond.methodLink "java/util/Objects" (105 : Nat) ({ cls := "jdk/internal/util/Preconditions", name := "checkIndex", desc := "(IILjava/util/function/BiFunction;)I" } : Jvm.MethodName)) ∈ lw_all := lw_g (lw_at lw_m2 165 rfl) rfl
theorem q121 : (Jvm.Cond.initialized "java/lang/Integer") ∈ lw_all := lw_g (lw_at lw_m1 23 rfl) rfl
theorem q817 : (Jvm.Cond.static ({ cls := "java/lang/Integer", name := "bitCount", desc := "(I)I" } : Jvm.MethodName)) ∈ lw_all := lw_g (lw_at lw_m3 239 rfl) rfl
theorem q818 : (Jvm.Cond.code ({ cls := "java/lang/Integer", name := "bitCount", desc := "(I)I" } : Jvm.MethodName) prog_16_method_49_code (1 : Nat) (Option.some Jvm.ClassFile.FieldType.int)) ∈ lw_all := lw_g (lw_at lw_m4 0 rfl) rfl
theorem q819 : (Jvm.Cond.constant "java/lang/Integer" (265 : Nat) (1431655765 : Int32)) ∈ lw_all := lw_g (lw_at lw_m4 1 rfl) rfl
theorem q820 : (Jvm.Cond.constant "java/lang/Integer" (266 : Nat) (858993459 : Int32)) ∈ lw_all := lw_g (lw_at lw_m4 2 rfl) rfl
theorem q821 : (Jvm.Cond.constant "java/lang/Integer" (267 : Nat) (252645135 : Int32)) ∈ lw_all := lw_g (lw_at lw_m4 3 rfl) rfl
theorem q148 : (Jvm.Cond.instanceMethod ({ cls := "java/lang/Object", name := "<init>", desc := "()V" } : Jvm.MethodName)) ∈ lw_all := lw_g (lw_at lw_m1 50 rfl) rfl
theorem q149 : (Jvm.Cond.code ({ cls := "java/lang/Object", name := "<init>", desc := "()V" } : Jvm.MethodName) object_method_1_code (1 : Nat) (Option.none : Option Jvm.ClassFile.FieldType)) ∈ lw_all := lw_g (lw_at lw_m1 51 rfl) rfl
theorem q432 : (Jvm.Cond.instanceMethod ({ cls := "java/lang/Object", name := "getClass", desc := "()Ljava/lang/Class;" } : Jvm.MethodName)) ∈ lw_all := lw_g (lw_at lw_m2 94 rfl) rfl
theorem q433 : (Jvm.Cond.sameMethod "java/lang/Object" "java/lang/Object" "getClass" "()Ljava/lang/Class;") ∈ lw_all := lw_g (lw_at lw_m2 95 rfl) rfl
theorem q445 : (Jvm.Cond.native ({ cls := "java/lang/Object", name := "getClass", desc := "()Ljava/lang/Class;" } : Jvm.MethodName)) ∈ lw_all := lw_g (lw_at lw_m2 107 rfl) rfl
theorem q1591 : (Jvm.Cond.initialized "java/lang/Object") ∈ lw_all := lw_g (lw_at lw_m7 53 rfl) rfl
theorem q1606 : (Jvm.Cond.declares ({ cls := "java/lang/Object", name := "getClass", desc := "()Ljava/lang/Class;" } : Jvm.MethodName)) ∈ lw_tbl := lw_at lw_m7 68 rfl
theorem q108 : (Jvm.Cond.initialized "java/util/ArrayList") ∈ lw_all := lw_g (lw_at lw_m1 10 rfl) rfl
theorem q166 : (Jvm.Cond.instantiable "java/util/ArrayList" (3 : Nat)) ∈ lw_all := lw_g (lw_at lw_m1 68 rfl) rfl
theorem q168 : (Jvm.Cond.instanceMethod ({ cls := "java/util/ArrayList", name := "<init>", desc := "(I)V" } : Jvm.MethodName)) ∈ lw_all := lw_g (lw_at lw_m1 70 rfl) rfl
theorem q169 : (Jvm.Cond.code ({ cls := "java/util/ArrayList", name := "<init>", desc := "(I)V" } : Jvm.MethodName) prog_27_method_1_code (2 : Nat) (Option.none : Option Jvm.ClassFile.FieldType)) ∈ lw_all := lw_g (lw_at lw_m1 71 rfl) rfl
theorem q170 : (Jvm.Cond.methodLink "java/util/ArrayList" (1 : Nat) ({ cls := "java/util/AbstractList", name := "<init>", desc := "()V" } : Jvm.MethodName)) ∈ lw_all := lw_g (lw_at lw_m1 72 rfl) rfl
theorem q177 : (Jvm.Cond.classLink "java/util/ArrayList" (7 : Nat) "java/lang/Object") ∈ lw_all := lw_g (lw_at lw_m1 79 rfl) rfl
theorem q179 : (Jvm.Cond.fieldLink "java/util/ArrayList" (15 : Nat) "java/util/ArrayList" "EMPTY_ELEMENTDATA" "[Ljava/lang/Object;") ∈ lw_all := lw_g (lw_at lw_m1 81 rfl) rfl
theorem q180 : (Jvm.Cond.laysStatic "java/util/ArrayList" "EMPTY_ELEMENTDATA" "[Ljava/lang/Object;") ∈ lw_tbl := lw_at lw_m1 82 rfl
theorem q181 : (Jvm.Cond.fieldLink "java/util/ArrayList" (9 : Nat) "java/util/ArrayList" "elementData" "[Ljava/lang/Object;") ∈ lw_all := lw_g (lw_at lw_m1 83 rfl) rfl
theorem q182 : (Jvm.Cond.fieldLink "java/util/ArrayList" (48 : Nat) "java/util/ArrayList" "size" "I") ∈ lw_all := lw_g (lw_at lw_m1 84 rfl) rfl
theorem q184 : (Jvm.Cond.fieldLink "java/util/ArrayList" (63 : Nat) "java/util/ArrayList" "modCount" "I") ∈ lw_all := lw_g (lw_at lw_m1 86 rfl) rfl
theorem q185 : (Jvm.Cond.sameField "java/util/ArrayList" "java/util/AbstractList" "modCount" "I") ∈ lw_all := lw_g (lw_at lw_m1 87 rfl) rfl
theorem q186 : (Jvm.Cond.lays "java/util/ArrayList" "java/util/ArrayList" "elementData" "[Ljava/lang/Object;") ∈ lw_all := lw_g (lw_at lw_m1 88 rfl) rfl
theorem q187 : (Jvm.Cond.soleField "java/util/ArrayList" "elementData") ∈ lw_all := lw_g (lw_at lw_m1 89 rfl) rfl
theorem q188 : (Jvm.Cond.lays "java/util/ArrayList" "java/util/ArrayList" "size" "I") ∈ lw_all := lw_g (lw_at lw_m1 90 rfl) rfl
theorem q189 : (Jvm.Cond.soleField "java/util/ArrayList" "size") ∈ lw_all := lw_g (lw_at lw_m1 91 rfl) rfl
theorem q190 : (Jvm.Cond.lays "java/util/ArrayList" "java/util/AbstractList" "modCount" "I") ∈ lw_all := lw_g (lw_at lw_m1 92 rfl) rfl
theorem q192 : (Jvm.Cond.superclass "java/util/ArrayList" "java/util/AbstractList") ∈ lw_all := lw_g (lw_at lw_m1 94 rfl) rfl
theorem q337 : (Jvm.Cond.instanceMethod ({ cls := "java/util/ArrayList", name := "size", desc := "()I" } : Jvm.MethodName)) ∈ lw_all := lw_g (lw_at lw_m1 239 rfl) rfl
theorem q338 : (Jvm.Cond.selects "java/util/ArrayList" ({ cls := "java/util/ArrayList", name := "size", desc := "()I" } : Jvm.MethodName) ({ cls := "java/util/ArrayList", name := "size", desc := "()I" } : Jvm.MethodName)) ∈ lw_all := lw_g (lw_at lw_m2 0 rfl) rfl
theorem q339 : (Jvm.Cond.code ({ cls := "java/util/ArrayList", name := "size", desc := "()I" } : Jvm.MethodName) prog_27_method_8_code (1 : Nat) (Option.some Jvm.ClassFile.FieldType.int)) ∈ lw_all := lw_g (lw_at lw_m2 1 rfl) rfl
theorem q401 : (Jvm.Cond.instanceMethod ({ cls := "java/util/ArrayList", name := "add", desc := "(Ljava/lang/Object;)Z" } : Jvm.MethodName)) ∈ lw_all := lw_g (lw_at lw_m2 63 rfl) rfl
theorem q402 : (Jvm.Cond.selects "java/util/ArrayList" ({ cls := "java/util/ArrayList", name := "add", desc := "(Ljava/lang/Object;)Z" } : Jvm.MethodName) ({ cls := "java/util/ArrayList", name := "add", desc := "(Ljava/lang/Object;)Z" } : Jvm.MethodName)) ∈ lw_all := lw_g (lw_at lw_m2 64 rfl) rfl
theorem q403 : (Jvm.Cond.code ({ cls := "java/util/ArrayList", name := "add", desc := "(Ljava/lang/Object;)Z" } : Jvm.MethodName) prog_27_method_25_code (2 : Nat) (Option.some Jvm.ClassFile.FieldType.boolean)) ∈ lw_all := lw_g (lw_at lw_m2 65 rfl) rfl
theorem q404 : (Jvm.Cond.methodLink "java/util/ArrayList" (131 : Nat) ({ cls := "java/util/ArrayList", name := "add", desc := "(Ljava/lang/Object;[Ljava/lang/Object;I)V" } : Jvm.MethodName)) ∈ lw_all := lw_g (lw_at lw_m2 66 rfl) rfl
theorem q405 : (Jvm.Cond.privateMethod ({ cls := "java/util/ArrayList", name := "add", desc := "(Ljava/lang/Object;[Ljava/lang/Object;I)V" } : Jvm.MethodName)) ∈ lw_tbl := lw_at lw_m2 67 rfl
theorem q406 : (Jvm.Cond.instanceMethod ({ cls := "java/util/ArrayList", name := "add", desc := "(Ljava/lang/Object;[Ljava/lang/Object;I)V" } : Jvm.MethodName)) ∈ lw_all := lw_g (lw_at lw_m2 68 rfl) rfl
theorem q407 : (Jvm.Cond.code ({ cls := "java/util/ArrayList", name := "add", desc := "(Ljava/lang/Object;[Ljava/lang/Object;I)V" } : Jvm.MethodName) prog_27_method_24_code (4 : Nat) (Option.none : Option Jvm.ClassFile.FieldType)) ∈ lw_all := lw_g (lw_at lw_m2 69 rfl) rfl
theorem q408 : (Jvm.Cond.methodLink "java/util/ArrayList" (129 : Nat) ({ cls := "java/util/ArrayList", name := "grow", desc := "()[Ljava/lang/Object;" } : Jvm.MethodName)) ∈ lw_all := lw_g (lw_at lw_m2 70 rfl) rfl
theorem q409 : (Jvm.Cond.privateMethod ({ cls := "java/util/ArrayList", name := "grow", desc := "()[Ljava/lang/Object;" } : Jvm.MethodName)) ∈ lw_tbl := lw_at lw_m2 71 rfl
theorem q410 : (Jvm.Cond.instanceMethod ({ cls := "java/util/ArrayList", name := "grow", desc := "()[Ljava/lang/Object;" } : Jvm.MethodName)) ∈ lw_all := lw_g (lw_at lw_m2 72 rfl) rfl
theorem q411 : (Jvm.Cond.code ({ cls := "java/util/ArrayList", name := "grow", desc := "()[Ljava/lang/Object;" } : Jvm.MethodName) prog_27_method_7_code (1 : Nat) (Option.some (Jvm.ClassFile.FieldType.array (Jvm.ClassFile.FieldType.object "java/lang/Object")))) ∈ lw_all := lw_g (lw_at lw_m2 73 rfl) rfl
theorem q412 : (Jvm.Cond.methodLink "java/util/ArrayList" (69 : Nat) ({ cls := "java/util/ArrayList", name := "grow", desc := "(I)[Ljava/lang/Object;" } : Jvm.MethodName)) ∈ lw_all := lw_g (lw_at lw_m2 74 rfl) rfl
theorem q413 : (Jvm.Cond.privateMethod ({ cls := "java/util/ArrayList", name := "grow", desc := "(I)[Ljava/lang/Object;" } : Jvm.MethodName)) ∈ lw_tbl := lw_at lw_m2 75 rfl
theorem q414 : (Jvm.Cond.instanceMethod ({ cls := "java/util/ArrayList", name := "grow", desc := "(I)[Ljava/lang/Object;" } : Jvm.MethodName)) ∈ lw_all := lw_g (lw_at lw_m2 76 rfl) rfl
theorem q415 : (Jvm.Cond.code ({ cls := "java/util/ArrayList", name := "grow", desc := "(I)[Ljava/lang/Object;" } : Jvm.MethodName) prog_27_method_6_code (4 : Nat) (Option.some (Jvm.ClassFile.FieldType.array (Jvm.ClassFile.FieldType.object "java/lang/Object")))) ∈ lw_all := lw_g (lw_at lw_m2 77 rfl) rfl
theorem q416 : (Jvm.Cond.fieldLink "java/util/ArrayList" (39 : Nat) "java/util/ArrayList" "DEFAULTCAPACITY_EMPTY_ELEMENTDATA" "[Ljava/lang/Object;") ∈ lw_all := lw_g (lw_at lw_m2 78 rfl) rfl
theorem q417 : (Jvm.Cond.laysStatic "java/util/ArrayList" "DEFAULTCAPACITY_EMPTY_ELEMENTDATA" "[Ljava/lang/Object;") ∈ lw_tbl := lw_at lw_m2 79 rfl
theorem q418 : (Jvm.Cond.methodLink "java/util/ArrayList" (73 : Nat) ({ cls := "jdk/internal/util/ArraysSupport", name := "newLength", desc := "(III)I" } : Jvm.MethodName)) ∈ lw_all := lw_g (lw_at lw_m2 80 rfl) rfl
theorem q428 : (Jvm.Cond.methodLink "java/util/ArrayList" (66 : Nat) ({ cls := "java/util/Arrays", name := "copyOf", desc := "([Ljava/lang/Object;I)[Ljava/lang/Object;" } : Jvm.MethodName)) ∈ lw_all := lw_g (lw_at lw_m2 90 rfl) rfl
theorem q444 : (Jvm.Cond.selects "java/util/ArrayList" ({ cls := "java/lang/Object", name := "getClass", desc := "()Ljava/lang/Class;" } : Jvm.MethodName) ({ cls := "java/lang/Object", name := "getClass", desc := "()Ljava/lang/Class;" } : Jvm.MethodName)) ∈ lw_all := lw_g (lw_at lw_m2 106 rfl) rfl
theorem q455 : (Jvm.Cond.methodLink "java/util/ArrayList" (79 : Nat) ({ cls := "java/lang/Math", name := "max", desc := "(II)I" } : Jvm.MethodName)) ∈ lw_all := lw_g (lw_at lw_m2 117 rfl) rfl
theorem q497 : (Jvm.Cond.instanceMethod ({ cls := "java/util/ArrayList", name := "get", desc := "(I)Ljava/lang/Object;" } : Jvm.MethodName)) ∈ lw_all := lw_g (lw_at lw_m2 159 rfl) rfl
theorem q498 : (Jvm.Cond.selects "java/util/ArrayList" ({ cls := "java/util/ArrayList", name := "get", desc := "(I)Ljava/lang/Object;" } : Jvm.MethodName) ({ cls := "java/util/ArrayList", name := "get", desc := "(I)Ljava/lang/Object;" } : Jvm.MethodName)) ∈ lw_all := lw_g (lw_at lw_m2 160 rfl) rfl
theorem q499 : (Jvm.Cond.code ({ cls := "java/util/ArrayList", name := "get", desc := "(I)Ljava/lang/Object;" } : Jvm.MethodName) prog_27_method_20_code (2 : Nat) (Option.some (Jvm.ClassFile.FieldType.object "java/lang/Object"))) ∈ lw_all := lw_g (lw_at lw_m2 161 rfl) rfl
theorem q500 : (Jvm.Cond.methodLink "java/util/ArrayList" (118 : Nat) ({ cls := "java/util/Objects", name := "checkIndex", desc := "(II)I" } : Jvm.MethodName)) ∈ lw_all := lw_g (lw_at lw_m2 162 rfl) rfl
theorem q504 : (Jvm.Cond.methodLink "java/util/ArrayList" (123 : Nat) ({ cls := "java/util/ArrayList", name := "elementData", desc := "(I)Ljava/lang/Object;" } : Jvm.MethodName)) ∈ lw_all := lw_g (lw_at lw_m2 166 rfl) rfl
theorem q505 : (Jvm.Cond.instanceMethod ({ cls := "java/util/ArrayList", name := "elementData", desc := "(I)Ljava/lang/Object;" } : Jvm.MethodName)) ∈ lw_all := lw_g (lw_at lw_m2 167 rfl) rfl
theorem q506 : (Jvm.Cond.selects "java/util/ArrayList" ({ cls := "java/util/ArrayList", name := "elementData", desc := "(I)Ljava/lang/Object;" } : Jvm.MethodName) ({ cls := "java/util/ArrayList", name := "elementData", desc := "(I)Ljava/lang/Object;" } : Jvm.MethodName)) ∈ lw_all := lw_g (lw_at lw_m2 168 rfl) rfl
theorem q507 : (Jvm.Cond.code ({ cls := "java/util/ArrayList", name := "elementData", desc := "(I)Ljava/lang/Object;" } : Jvm.MethodName) prog_27_method_18_code (2 : Nat) (Option.some (Jvm.ClassFile.FieldType.object "java/lang/Object"))) ∈ lw_all := lw_g (lw_at lw_m2 169 rfl) rfl
theorem q547 : (Jvm.Cond.instanceMethod ({ cls := "java/util/ArrayList", name := "isEmpty", desc := "()Z" } : Jvm.MethodName)) ∈ lw_all := lw_g (lw_at lw_m2 209 rfl) rfl
theorem q548 : (Jvm.Cond.selects "java/util/ArrayList" ({ cls := "java/util/ArrayList", name := "isEmpty", desc := "()Z" } : Jvm.MethodName) ({ cls := "java/util/ArrayList", name := "isEmpty", desc := "()Z" } : Jvm.MethodName)) ∈ lw_all := lw_g (lw_at lw_m2 210 rfl) rfl
theorem q549 : (Jvm.Cond.code ({ cls := "java/util/ArrayList", name := "isEmpty", desc := "()Z" } : Jvm.MethodName) prog_27_method_9_code (1 : Nat) (Option.some Jvm.ClassFile.FieldType.boolean)) ∈ lw_all := lw_g (lw_at lw_m2 211 rfl) rfl
theorem q1600 : (Jvm.Cond.castable "java/util/ArrayList" "java/lang/Object") ∈ lw_tbl := lw_at lw_m7 62 rfl
theorem q109 : (Jvm.Cond.initialized "java/lang/String") ∈ lw_all := lw_g (lw_at lw_m1 11 rfl) rfl
theorem q285 : (Jvm.Cond.instanceMethod ({ cls := "java/lang/String", name := "length", desc := "()I" } : Jvm.MethodName)) ∈ lw_all := lw_g (lw_at lw_m1 187 rfl) rfl
theorem q286 : (Jvm.Cond.selects "java/lang/String" ({ cls := "java/lang/String", name := "length", desc := "()I" } : Jvm.MethodName) ({ cls := "java/lang/String", name := "length", desc := "()I" } : Jvm.MethodName)) ∈ lw_all := lw_g (lw_at lw_m1 188 rfl) rfl
theorem q287 : (Jvm.Cond.code ({ cls := "java/lang/String", name := "length", desc := "()I" } : Jvm.MethodName) prog_19_method_54_code (1 : Nat) (Option.some Jvm.ClassFile.FieldType.int)) ∈ lw_all := lw_g (lw_at lw_m1 189 rfl) rfl
theorem q288 : (Jvm.Cond.methodLink "java/lang/String" (335 : Nat) ({ cls := "java/lang/String", name := "coder", desc := "()B" } : Jvm.MethodName)) ∈ lw_all := lw_g (lw_at lw_m1 190 rfl) rfl
theorem q289 : (Jvm.Cond.instanceMethod ({ cls := "java/lang/String", name := "coder", desc := "()B" } : Jvm.MethodName)) ∈ lw_all := lw_g (lw_at lw_m1 191 rfl) rfl
theorem q290 : (Jvm.Cond.selects "java/lang/String" ({ cls := "java/lang/String", name := "coder", desc := "()B" } : Jvm.MethodName) ({ cls := "java/lang/String", name := "coder", desc := "()B" } : Jvm.MethodName)) ∈ lw_all := lw_g (lw_at lw_m1 192 rfl) rfl
theorem q291 : (Jvm.Cond.code ({ cls := "java/lang/String", name := "coder", desc := "()B" } : Jvm.MethodName) prog_19_method_152_code (1 : Nat) (Option.some Jvm.ClassFile.FieldType.byte)) ∈ lw_all := lw_g (lw_at lw_m1 193 rfl) rfl
theorem q292 : (Jvm.Cond.fieldLink "java/lang/String" (38 : Nat) "java/lang/String" "COMPACT_STRINGS" "Z") ∈ lw_all := lw_g (lw_at lw_m1 194 rfl) rfl
theorem q293 : (Jvm.Cond.laysStatic "java/lang/String" "COMPACT_STRINGS" "Z") ∈ lw_tbl := lw_at lw_m1 195 rfl
theorem q295 : (Jvm.Cond.instanceMethod ({ cls := "java/lang/String", name := "charAt", desc := "(I)C" } : Jvm.MethodName)) ∈ lw_all := lw_g (lw_at lw_m1 197 rfl) rfl
theorem q296 : (Jvm.Cond.selects "java/lang/String" ({ cls := "java/lang/String", name := "charAt", desc := "(I)C" } : Jvm.MethodName) ({ cls := "java/lang/String", name := "charAt", desc := "(I)C" } : Jvm.MethodName)) ∈ lw_all := lw_g (lw_at lw_m1 198 rfl) rfl
theorem q297 : (Jvm.Cond.code ({ cls := "java/lang/String", name := "charAt", desc := "(I)C" } : Jvm.MethodName) prog_19_method_56_code (2 : Nat) (Option.some Jvm.ClassFile.FieldType.char)) ∈ lw_all := lw_g (lw_at lw_m1 199 rfl) rfl
theorem q298 : (Jvm.Cond.methodLink "java/lang/String" (492 : Nat) ({ cls := "java/lang/String", name := "isLatin1", desc := "()Z" } : Jvm.MethodName)) ∈ lw_all := lw_g (lw_at lw_m1 200 rfl) rfl
theorem q299 : (Jvm.Cond.instanceMethod ({ cls := "java/lang/String", name := "isLatin1", desc := "()Z" } : Jvm.MethodName)) ∈ lw_all := lw_g (lw_at lw_m1 201 rfl) rfl
theorem q300 : (Jvm.Cond.selects "java/lang/String" ({ cls := "java/lang/String", name := "isLatin1", desc := "()Z" } : Jvm.MethodName) ({ cls := "java/lang/String", name := "isLatin1", desc := "()Z" } : Jvm.MethodName)) ∈ lw_all := lw_g (lw_at lw_m1 202 rfl) rfl
theorem q301 : (Jvm.Cond.code ({ cls := "java/lang/String", name := "isLatin1", desc := "()Z" } : Jvm.MethodName) prog_19_method_154_code (1 : Nat) (Option.some Jvm.ClassFile.FieldType.boolean)) ∈ lw_all := lw_g (lw_at lw_m1 203 rfl) rfl
theorem q302 : (Jvm.Cond.methodLink "java/lang/String" (495 : Nat) ({ cls := "java/lang/StringLatin1", name := "charAt", desc := "([BI)C" } : Jvm.MethodName)) ∈ lw_all := lw_g (lw_at lw_m1 204 rfl) rfl
theorem q306 : (Jvm.Cond.static ({ cls := "java/lang/String", name := "checkIndex", desc := "(II)V" } : Jvm.MethodName)) ∈ lw_all := lw_g (lw_at lw_m1 208 rfl) rfl
theorem q307 : (Jvm.Cond.code ({ cls := "java/lang/String", name := "checkIndex", desc := "(II)V" } : Jvm.MethodName) prog_19_method_155_code (2 : Nat) (Option.none : Option Jvm.ClassFile.FieldType)) ∈ lw_all := lw_g (lw_at lw_m1 209 rfl) rfl
theorem q308 : (Jvm.Cond.fieldLink "java/lang/String" (1053 : Nat) "jdk/internal/util/Preconditions" "SIOOBE_FORMATTER" "Ljava/util/function/BiFunction;") ∈ lw_all := lw_g (lw_at lw_m1 210 rfl) rfl
theorem q310 : (Jvm.Cond.methodLink "java/lang/String" (1059 : Nat) ({ cls := "jdk/internal/util/Preconditions", name := "checkIndex", desc := "(IILjava/util/function/BiFunction;)I" } : Jvm.MethodName)) ∈ lw_all := lw_g (lw_at lw_m1 212 rfl) rfl
theorem q313 : (Jvm.Cond.methodLink "java/lang/String" (498 : Nat) ({ cls := "java/lang/StringUTF16", name := "charAt", desc := "([BI)C" } : Jvm.MethodName)) ∈ lw_all := lw_g (lw_at lw_m1 215 rfl) rfl
theorem q1592 : (Jvm.Cond.castable "java/lang/String" "java/lang/Object") ∈ lw_tbl := lw_at lw_m7 54 rfl
theorem q1618 : (Jvm.Cond.fieldLink "java/lang/String" (9 : Nat) "java/lang/String" "value" "[B") ∈ lw_all := lw_g (lw_at lw_m7 80 rfl) rfl
theorem q1619 : (Jvm.Cond.fieldLink "java/lang/String" (15 : Nat) "java/lang/String" "coder" "B") ∈ lw_all := lw_g (lw_at lw_m7 81 rfl) rfl
theorem q110 : (Jvm.Cond.initialized "java/lang/StringLatin1") ∈ lw_all := lw_g (lw_at lw_m1 12 rfl) rfl
theorem q303 : (Jvm.Cond.static ({ cls := "java/lang/StringLatin1", name := "charAt", desc := "([BI)C" } : Jvm.MethodName)) ∈ lw_all := lw_g (lw_at lw_m1 205 rfl) rfl
theorem q304 : (Jvm.Cond.code ({ cls := "java/lang/StringLatin1", name := "charAt", desc := "([BI)C" } : Jvm.MethodName) prog_20_method_2_code (2 : Nat) (Option.some Jvm.ClassFile.FieldType.char)) ∈ lw_all := lw_g (lw_at lw_m1 206 rfl) rfl
theorem q305 : (Jvm.Cond.methodLink "java/lang/StringLatin1" (9 : Nat) ({ cls := "java/lang/String", name := "checkIndex", desc := "(II)V" } : Jvm.MethodName)) ∈ lw_all := lw_g (lw_at lw_m1 207 rfl) rfl
theorem q111 : (Jvm.Cond.initialized "jdk/internal/util/Preconditions") ∈ lw_all := lw_g (lw_at lw_m1 13 rfl) rfl
theorem q309 : (Jvm.Cond.laysStatic "jdk/internal/util/Preconditions" "SIOOBE_FORMATTER" "Ljava/util/function/BiFunction;") ∈ lw_tbl := lw_at lw_m1 211 rfl
theorem q311 : (Jvm.Cond.static ({ cls := "jdk/internal/util/Preconditions", name := "checkIndex", desc := "(IILjava/util/function/BiFunction;)I" } : Jvm.MethodName)) ∈ lw_all := lw_g (lw_at lw_m1 213 rfl) rfl
theorem q312 : (Jvm.Cond.code ({ cls := "jdk/internal/util/Preconditions", name := "checkIndex", desc := "(IILjava/util/function/BiFunction;)I" } : Jvm.MethodName) prog_35_method_11_code (3 : Nat) (Option.some Jvm.ClassFile.FieldType.int)) ∈ lw_all := lw_g (lw_at lw_m1 214 rfl) rfl
theorem q112 : (Jvm.Cond.initialized "java/lang/StringUTF16") ∈ lw_all := lw_g (lw_at lw_m1 14 rfl) rfl
theorem q314 : (Jvm.Cond.static ({ cls := "java/lang/StringUTF16", name := "charAt", desc := "([BI)C" } : Jvm.MethodName)) ∈ lw_all := lw_g (lw_at lw_m1 216 rfl) rfl
theorem q315 : (Jvm.Cond.code ({ cls := "java/lang/StringUTF16", name := "charAt", desc := "([BI)C" } : Jvm.MethodName) prog_21_method_83_code (2 : Nat) (Option.some Jvm.ClassFile.FieldType.char)) ∈ lw_all := lw_g (lw_at lw_m1 217 rfl) rfl
theorem q316 : (Jvm.Cond.methodLink "java/lang/StringUTF16" (67 : Nat) ({ cls := "java/lang/StringUTF16", name := "checkIndex", desc := "(I[B)V" } : Jvm.MethodName)) ∈ lw_all := lw_g (lw_at lw_m1 218 rfl) rfl
theorem q317 : (Jvm.Cond.static ({ cls := "java/lang/StringUTF16", name := "checkIndex", desc := "(I[B)V" } : Jvm.MethodName)) ∈ lw_all := lw_g (lw_at lw_m1 219 rfl) rfl
theorem q318 : (Jvm.Cond.code ({ cls := "java/lang/StringUTF16", name := "checkIndex", desc := "(I[B)V" } : Jvm.MethodName) prog_21_method_91_code (2 : Nat) (Option.none : Option Jvm.ClassFile.FieldType)) ∈ lw_all := lw_g (lw_at lw_m1 220 rfl) rfl
theorem q319 : (Jvm.Cond.methodLink "java/lang/StringUTF16" (48 : Nat) ({ cls := "java/lang/StringUTF16", name := "length", desc := "([B)I" } : Jvm.MethodName)) ∈ lw_all := lw_g (lw_at lw_m1 221 rfl) rfl
theorem q320 : (Jvm.Cond.static ({ cls := "java/lang/StringUTF16", name := "length", desc := "([B)I" } : Jvm.MethodName)) ∈ lw_all := lw_g (lw_at lw_m1 222 rfl) rfl
theorem q321 : (Jvm.Cond.code ({ cls := "java/lang/StringUTF16", name := "length", desc := "([B)I" } : Jvm.MethodName) prog_21_method_6_code (1 : Nat) (Option.some Jvm.ClassFile.FieldType.int)) ∈ lw_all := lw_g (lw_at lw_m1 223 rfl) rfl
theorem q322 : (Jvm.Cond.methodLink "java/lang/StringUTF16" (414 : Nat) ({ cls := "java/lang/String", name := "checkIndex", desc := "(II)V" } : Jvm.MethodName)) ∈ lw_all := lw_g (lw_at lw_m1 224 rfl) rfl
theorem q323 : (Jvm.Cond.methodLink "java/lang/StringUTF16" (71 : Nat) ({ cls := "java/lang/StringUTF16", name := "getChar", desc := "([BI)C" } : Jvm.MethodName)) ∈ lw_all := lw_g (lw_at lw_m1 225 rfl) rfl
theorem q324 : (Jvm.Cond.static ({ cls := "java/lang/StringUTF16", name := "getChar", desc := "([BI)C" } : Jvm.MethodName)) ∈ lw_all := lw_g (lw_at lw_m1 226 rfl) rfl
theorem q325 : (Jvm.Cond.code ({ cls := "java/lang/StringUTF16", name := "getChar", desc := "([BI)C" } : Jvm.MethodName) prog_21_method_5_code (2 : Nat) (Option.some Jvm.ClassFile.FieldType.char)) ∈ lw_all := lw_g (lw_at lw_m1 227 rfl) rfl
theorem q326 : (Jvm.Cond.fieldLink "java/lang/StringUTF16" (44 : Nat) "java/lang/StringUTF16" "$assertionsDisabled" "Z") ∈ lw_all := lw_g (lw_at lw_m1 228 rfl) rfl
theorem q327 : (Jvm.Cond.laysStatic "java/lang/StringUTF16" "$assertionsDisabled" "Z") ∈ lw_tbl := lw_at lw_m1 229 rfl
theorem q328 : (Jvm.Cond.fieldLink "java/lang/StringUTF16" (59 : Nat) "java/lang/StringUTF16" "HI_BYTE_SHIFT" "I") ∈ lw_all := lw_g (lw_at lw_m1 230 rfl) rfl
theorem q329 : (Jvm.Cond.laysStatic "java/lang/StringUTF16" "HI_BYTE_SHIFT" "I") ∈ lw_tbl := lw_at lw_m1 231 rfl
theorem q330 : (Jvm.Cond.fieldLink "java/lang/StringUTF16" (63 : Nat) "java/lang/StringUTF16" "LO_BYTE_SHIFT" "I") ∈ lw_all := lw_g (lw_at lw_m1 232 rfl) rfl
theorem q331 : (Jvm.Cond.laysStatic "java/lang/StringUTF16" "LO_BYTE_SHIFT" "I") ∈ lw_tbl := lw_at lw_m1 233 rfl
theorem q113 : (Jvm.Cond.initialized "java/lang/Math") ∈ lw_all := lw_g (lw_at lw_m1 15 rfl) rfl
theorem q368 : (Jvm.Cond.static ({ cls := "java/lang/Math", name := "min", desc := "(II)I" } : Jvm.MethodName)) ∈ lw_all := lw_g (lw_at lw_m2 30 rfl) rfl
theorem q369 : (Jvm.Cond.code ({ cls := "java/lang/Math", name := "min", desc := "(II)I" } : Jvm.MethodName) prog_18_method_69_code (2 : Nat) (Option.some Jvm.ClassFile.FieldType.int)) ∈ lw_all := lw_g (lw_at lw_m2 31 rfl) rfl
theorem q422 : (Jvm.Cond.static ({ cls := "java/lang/Math", name := "max", desc := "(II)I" } : Jvm.MethodName)) ∈ lw_all := lw_g (lw_at lw_m2 84 rfl) rfl
theorem q423 : (Jvm.Cond.code ({ cls := "java/lang/Math", name := "max", desc := "(II)I" } : Jvm.MethodName) prog_18_method_65_code (2 : Nat) (Option.some Jvm.ClassFile.FieldType.int)) ∈ lw_all := lw_g (lw_at lw_m2 85 rfl) rfl
theorem q115 : (Jvm.Cond.initialized "jdk/internal/util/ArraysSupport") ∈ lw_all := lw_g (lw_at lw_m1 17 rfl) rfl
theorem q419 : (Jvm.Cond.static ({ cls := "jdk/internal/util/ArraysSupport", name := "newLength", desc := "(III)I" } : Jvm.MethodName)) ∈ lw_all := lw_g (lw_at lw_m2 81 rfl) rfl
theorem q420 : (Jvm.Cond.code ({ cls := "jdk/internal/util/ArraysSupport", name := "newLength", desc := "(III)I" } : Jvm.MethodName) prog_34_method_27_code (4 : Nat) (Option.some Jvm.ClassFile.FieldType.int)) ∈ lw_all := lw_g (lw_at lw_m2 82 rfl) rfl
theorem q421 : (Jvm.Cond.methodLink "jdk/internal/util/ArraysSupport" (194 : Nat) ({ cls := "java/lang/Math", name := "max", desc := "(II)I" } : Jvm.MethodName)) ∈ lw_all := lw_g (lw_at lw_m2 83 rfl) rfl
theorem q424 : (Jvm.Cond.constant "jdk/internal/util/ArraysSupport" (200 : Nat) (2147483639 : Int32)) ∈ lw_all := lw_g (lw_at lw_m2 86 rfl) rfl
theorem q425 : (Jvm.Cond.methodLink "jdk/internal/util/ArraysSupport" (201 : Nat) ({ cls := "jdk/internal/util/ArraysSupport", name := "hugeLength", desc := "(II)I" } : Jvm.MethodName)) ∈ lw_all := lw_g (lw_at lw_m2 87 rfl) rfl
theorem q426 : (Jvm.Cond.static ({ cls := "jdk/internal/util/ArraysSupport", name := "hugeLength", desc := "(II)I" } : Jvm.MethodName)) ∈ lw_all := lw_g (lw_at lw_m2 88 rfl) rfl
theorem q427 : (Jvm.Cond.code ({ cls := "jdk/internal/util/ArraysSupport", name := "hugeLength", desc := "(II)I" } : Jvm.MethodName) prog_34_method_28_code (3 : Nat) (Option.some Jvm.ClassFile.FieldType.int)) ∈ lw_all := lw_g (lw_at lw_m2 89 rfl) rfl
theorem q116 : (Jvm.Cond.initialized "java/util/Arrays") ∈ lw_all := lw_g (lw_at lw_m1 18 rfl) rfl
theorem q429 : (Jvm.Cond.static ({ cls := "java/util/Arrays", name := "copyOf", desc := "([Ljava/lang/Object;I)[Ljava/lang/Object;" } : Jvm.MethodName)) ∈ lw_all := lw_g (lw_at lw_m2 91 rfl) rfl
theorem q430 : (Jvm.Cond.code ({ cls := "java/util/Arrays", name := "copyOf", desc := "([Ljava/lang/Object;I)[Ljava/lang/Object;" } : Jvm.MethodName) prog_28_method_119_code (2 : Nat) (Option.some (Jvm.ClassFile.FieldType.array (Jvm.ClassFile.FieldType.object "java/lang/Object")))) ∈ lw_all := lw_g (lw_at lw_m2 92 rfl) rfl
theorem q431 : (Jvm.Cond.methodLink "java/util/Arrays" (86 : Nat) ({ cls := "java/lang/Object", name := "getClass", desc := "()Ljava/lang/Class;" } : Jvm.MethodName)) ∈ lw_all := lw_g (lw_at lw_m2 93 rfl) rfl
theorem q446 : (Jvm.Cond.methodLink "java/util/Arrays" (300 : Nat) ({ cls := "java/util/Arrays", name := "copyOf", desc := "([Ljava/lang/Object;ILjava/lang/Class;)[Ljava/lang/Object;" } : Jvm.MethodName)) ∈ lw_all := lw_g (lw_at lw_m2 108 rfl) rfl
theorem q447 : (Jvm.Cond.static ({ cls := "java/util/Arrays", name := "copyOf", desc := "([Ljava/lang/Object;ILjava/lang/Class;)[Ljava/lang/Object;" } : Jvm.MethodName)) ∈ lw_all := lw_g (lw_at lw_m2 109 rfl) rfl
theorem q448 : (Jvm.Cond.code ({ cls := "java/util/Arrays", name := "copyOf", desc := "([Ljava/lang/Object;ILjava/lang/Class;)[Ljava/lang/Object;" } : Jvm.MethodName) prog_28_method_120_code (4 : Nat) (Option.some (Jvm.ClassFile.FieldType.array (Jvm.ClassFile.FieldType.object "java/lang/Object")))) ∈ lw_all := lw_g (lw_at lw_m2 110 rfl) rfl
theorem q449 : (Jvm.Cond.classLink "java/util/Arrays" (110 : Nat) "[Ljava/lang/Object;") ∈ lw_all := lw_g (lw_at lw_m2 111 rfl) rfl
theorem q450 : (Jvm.Cond.classLink "java/util/Arrays" (2 : Nat) "java/lang/Object") ∈ lw_all := lw_g (lw_at lw_m2 112 rfl) rfl
theorem q451 : (Jvm.Cond.methodLink "java/util/Arrays" (304 : Nat) ({ cls := "java/lang/Math", name := "min", desc := "(II)I" } : Jvm.MethodName)) ∈ lw_all := lw_g (lw_at lw_m2 113 rfl) rfl
theorem q452 : (Jvm.Cond.methodLink "java/util/Arrays" (150 : Nat) ({ cls := "java/lang/System", name := "arraycopy", desc := "(Ljava/lang/Object;ILjava/lang/Object;II)V" } : Jvm.MethodName)) ∈ lw_all := lw_g (lw_at lw_m2 114 rfl) rfl
theorem q99 : (Jvm.Cond.initialized "LastSpeakers") ∈ lw_all := lw_g (lw_at lw_m1 1 rfl) rfl
theorem q123 : (Jvm.Cond.instanceMethod ({ cls := "LastSpeakers", name := "feed", desc := "(IIIII)I" } : Jvm.MethodName)) ∈ lw_all := lw_g (lw_at lw_m1 25 rfl) rfl
theorem q124 : (Jvm.Cond.selects "LastSpeakers" ({ cls := "LastSpeakers", name := "feed", desc := "(IIIII)I" } : Jvm.MethodName) ({ cls := "LastSpeakers", name := "feed", desc := "(IIIII)I" } : Jvm.MethodName)) ∈ lw_all := lw_g (lw_at lw_m1 26 rfl) rfl
theorem q125 : (Jvm.Cond.code ({ cls := "LastSpeakers", name := "feed", desc := "(IIIII)I" } : Jvm.MethodName) prog_1_method_3_code (6 : Nat) (Option.some Jvm.ClassFile.FieldType.int)) ∈ lw_all := lw_g (lw_at lw_m1 27 rfl) rfl
theorem q126 : (Jvm.Cond.methodLink "LastSpeakers" (11 : Nat) ({ cls := "LastSpeakers", name := "feeds", desc := "(I)V" } : Jvm.MethodName)) ∈ lw_all := lw_g (lw_at lw_m1 28 rfl) rfl
theorem q127 : (Jvm.Cond.privateMethod ({ cls := "LastSpeakers", name := "feeds", desc := "(I)V" } : Jvm.MethodName)) ∈ lw_tbl := lw_at lw_m1 29 rfl
theorem q128 : (Jvm.Cond.instanceMethod ({ cls := "LastSpeakers", name := "feeds", desc := "(I)V" } : Jvm.MethodName)) ∈ lw_all := lw_g (lw_at lw_m1 30 rfl) rfl
theorem q129 : (Jvm.Cond.instantiable "LastSpeakers" (27 : Nat)) ∈ lw_all := lw_g (lw_at lw_m1 31 rfl) rfl
theorem q130 : (Jvm.Cond.code ({ cls := "LastSpeakers", name := "feeds", desc := "(I)V" } : Jvm.MethodName) prog_1_method_2_code (3 : Nat) (Option.none : Option Jvm.ClassFile.FieldType)) ∈ lw_all := lw_g (lw_at lw_m1 32 rfl) rfl
theorem q132 : (Jvm.Cond.instanceMethod ({ cls := "LastSpeakers", name := "end", desc := "(I)Z" } : Jvm.MethodName)) ∈ lw_all := lw_g (lw_at lw_m1 34 rfl) rfl
theorem q133 : (Jvm.Cond.selects "LastSpeakers" ({ cls := "LastSpeakers", name := "end", desc := "(I)Z" } : Jvm.MethodName) ({ cls := "LastSpeakers", name := "end", desc := "(I)Z" } : Jvm.MethodName)) ∈ lw_all := lw_g (lw_at lw_m1 35 rfl) rfl
theorem q134 : (Jvm.Cond.code ({ cls := "LastSpeakers", name := "end", desc := "(I)Z" } : Jvm.MethodName) prog_1_method_4_code (2 : Nat) (Option.some Jvm.ClassFile.FieldType.boolean)) ∈ lw_all := lw_g (lw_at lw_m1 36 rfl) rfl
theorem q135 : (Jvm.Cond.methodLink "LastSpeakers" (15 : Nat) ({ cls := "LastSpeakers", name := "in", desc := "(JJJ)Z" } : Jvm.MethodName)) ∈ lw_all := lw_g (lw_at lw_m1 37 rfl) rfl
theorem q136 : (Jvm.Cond.static ({ cls := "LastSpeakers", name := "in", desc := "(JJJ)Z" } : Jvm.MethodName)) ∈ lw_all := lw_g (lw_at lw_m1 38 rfl) rfl
theorem q137 : (Jvm.Cond.code ({ cls := "LastSpeakers", name := "in", desc := "(JJJ)Z" } : Jvm.MethodName) prog_1_method_1_code (6 : Nat) (Option.some Jvm.ClassFile.FieldType.boolean)) ∈ lw_all := lw_g (lw_at lw_m1 39 rfl) rfl
theorem q139 : (Jvm.Cond.instanceMethod ({ cls := "LastSpeakers", name := "fault", desc := "()I" } : Jvm.MethodName)) ∈ lw_all := lw_g (lw_at lw_m1 41 rfl) rfl
theorem q140 : (Jvm.Cond.selects "LastSpeakers" ({ cls := "LastSpeakers", name := "fault", desc := "()I" } : Jvm.MethodName) ({ cls := "LastSpeakers", name := "fault", desc := "()I" } : Jvm.MethodName)) ∈ lw_all := lw_g (lw_at lw_m1 42 rfl) rfl
theorem q141 : (Jvm.Cond.code ({ cls := "LastSpeakers", name := "fault", desc := "()I" } : Jvm.MethodName) prog_1_method_5_code (1 : Nat) (Option.some Jvm.ClassFile.FieldType.int)) ∈ lw_all := lw_g (lw_at lw_m1 43 rfl) rfl
theorem q142 : (Jvm.Cond.classLink "LastSpeakers" (19 : Nat) "LastSpeakers$Reader") ∈ lw_all := lw_g (lw_at lw_m1 44 rfl) rfl
theorem q144 : (Jvm.Cond.methodLink "LastSpeakers" (21 : Nat) ({ cls := "LastSpeakers$Reader", name := "<init>", desc := "([BI)V" } : Jvm.MethodName)) ∈ lw_all := lw_g (lw_at lw_m1 46 rfl) rfl
theorem q199 : (Jvm.Cond.fieldLinkNest "LastSpeakers" (120 : Nat) "LastSpeakers$Tongue" "things" "Ljava/util/ArrayList;" "LastSpeakers") ∈ lw_tbl := lw_at lw_m1 101 rfl
theorem q202 : (Jvm.Cond.fieldLinkNest "LastSpeakers" (134 : Nat) "LastSpeakers$Tongue" "people" "Ljava/util/ArrayList;" "LastSpeakers") ∈ lw_tbl := lw_at lw_m1 104 rfl
theorem q208 : (Jvm.Cond.fieldLinkNest "LastSpeakers" (221 : Nat) "LastSpeakers$Tongue" "month" "I" "LastSpeakers") ∈ lw_tbl := lw_at lw_m1 110 rfl
theorem q235 : (Jvm.Cond.fieldLinkNest "LastSpeakers" (89 : Nat) "LastSpeakers$Reader" "tongue" "LLastSpeakers$Tongue;" "LastSpeakers") ∈ lw_tbl := lw_at lw_m1 137 rfl
theorem q260 : (Jvm.Cond.methodLink "LastSpeakers" (25 : Nat) ({ cls := "LastSpeakers$Reader", name := "reads", desc := "()I" } : Jvm.MethodName)) ∈ lw_all := lw_g (lw_at lw_m1 162 rfl) rfl
theorem q383 : (Jvm.Cond.fieldLinkNest "LastSpeakers" (153 : Nat) "LastSpeakers$Thing" "worth" "I" "LastSpeakers") ∈ lw_tbl := lw_at lw_m2 45 rfl
theorem q386 : (Jvm.Cond.fieldLinkNest "LastSpeakers" (156 : Nat) "LastSpeakers$Thing" "hours" "I" "LastSpeakers") ∈ lw_tbl := lw_at lw_m2 48 rfl
theorem q388 : (Jvm.Cond.fieldLinkNest "LastSpeakers" (159 : Nat) "LastSpeakers$Thing" "leans" "I" "LastSpeakers") ∈ lw_tbl := lw_at lw_m2 50 rfl
theorem q389 : (Jvm.Cond.fieldLinkNest "LastSpeakers" (162 : Nat) "LastSpeakers$Thing" "reminds" "I" "LastSpeakers") ∈ lw_tbl := lw_at lw_m2 51 rfl
theorem q434 : (Jvm.Cond.selects "LastSpeakers" ({ cls := "java/lang/Object", name := "getClass", desc := "()Ljava/lang/Class;" } : Jvm.MethodName) ({ cls := "java/lang/Object", name := "getClass", desc := "()Ljava/lang/Class;" } : Jvm.MethodName)) ∈ lw_all := lw_g (lw_at lw_m2 96 rfl) rfl
theorem q467 : (Jvm.Cond.fieldLinkNest "LastSpeakers" (175 : Nat) "LastSpeakers$Person" "stays" "I" "LastSpeakers") ∈ lw_tbl := lw_at lw_m2 129 rfl
theorem q470 : (Jvm.Cond.fieldLinkNest "LastSpeakers" (184 : Nat) "LastSpeakers$Person" "clear" "[I" "LastSpeakers") ∈ lw_tbl := lw_at lw_m2 132 rfl
theorem q473 : (Jvm.Cond.fieldLinkNest "LastSpeakers" (190 : Nat) "LastSpeakers$Person" "after" "[I" "LastSpeakers") ∈ lw_tbl := lw_at lw_m2 135 rfl
theorem q475 : (Jvm.Cond.fieldLinkNest "LastSpeakers" (178 : Nat) "LastSpeakers$Person" "isThere" "Z" "LastSpeakers") ∈ lw_tbl := lw_at lw_m2 137 rfl
theorem q476 : (Jvm.Cond.fieldLinkNest "LastSpeakers" (181 : Nat) "LastSpeakers$Person" "asked" "I" "LastSpeakers") ∈ lw_tbl := lw_at lw_m2 138 rfl
theorem q552 : (Jvm.Cond.instanceMethod ({ cls := "LastSpeakers", name := "<init>", desc := "()V" } : Jvm.MethodName)) ∈ lw_all := lw_g (lw_at lw_m2 214 rfl) rfl
theorem q553 : (Jvm.Cond.code ({ cls := "LastSpeakers", name := "<init>", desc := "()V" } : Jvm.MethodName) prog_1_method_6_code (2 : Nat) (Option.none : Option Jvm.ClassFile.FieldType)) ∈ lw_all := lw_g (lw_at lw_m2 215 rfl) rfl
theorem q554 : (Jvm.Cond.methodLink "LastSpeakers" (29 : Nat) ({ cls := "java/lang/Object", name := "<init>", desc := "()V" } : Jvm.MethodName)) ∈ lw_all := lw_g (lw_at lw_m2 216 rfl) rfl
theorem q555 : (Jvm.Cond.classLink "LastSpeakers" (34 : Nat) "LastSpeakers$Entry") ∈ lw_all := lw_g (lw_at lw_m2 217 rfl) rfl
theorem q557 : (Jvm.Cond.classLink "LastSpeakers" (47 : Nat) "[[[I") ∈ lw_all := lw_g (lw_at lw_m2 219 rfl) rfl
theorem q560 : (Jvm.Cond.classLink "LastSpeakers" (66 : Nat) "LastSpeakers$Hearing") ∈ lw_all := lw_g (lw_at lw_m2 222 rfl) rfl
theorem q562 : (Jvm.Cond.classLink "LastSpeakers" (72 : Nat) "[[I") ∈ lw_all := lw_g (lw_at lw_m2 224 rfl) rfl
theorem q563 : (Jvm.Cond.classLink "LastSpeakers" (80 : Nat) "LastSpeakers$Image") ∈ lw_all := lw_g (lw_at lw_m2 225 rfl) rfl
theorem q566 : (Jvm.Cond.methodLinkNest "LastSpeakers" (86 : Nat) ({ cls := "LastSpeakers$Entry", name := "<init>", desc := "()V" } : Jvm.MethodName) "LastSpeakers") ∈ lw_tbl := lw_at lw_m2 228 rfl
theorem q571 : (Jvm.Cond.fieldLinkNest "LastSpeakers" (239 : Nat) "LastSpeakers$Entry" "person" "I" "LastSpeakers") ∈ lw_tbl := lw_at lw_m2 233 rfl
theorem q573 : (Jvm.Cond.fieldLinkNest "LastSpeakers" (242 : Nat) "LastSpeakers$Entry" "thing" "I" "LastSpeakers") ∈ lw_tbl := lw_at lw_m2 235 rfl
theorem q575 : (Jvm.Cond.fieldLinkNest "LastSpeakers" (245 : Nat) "LastSpeakers$Entry" "hour" "I" "LastSpeakers") ∈ lw_tbl := lw_at lw_m2 237 rfl
theorem q577 : (Jvm.Cond.fieldLinkNest "LastSpeakers" (246 : Nat) "LastSpeakers$Entry" "brought" "I" "LastSpeakers") ∈ lw_tbl := lw_at lw_m2 239 rfl
theorem q589 : (Jvm.Cond.methodLinkNest "LastSpeakers" (87 : Nat) ({ cls := "LastSpeakers$Hearing", name := "<init>", desc := "()V" } : Jvm.MethodName) "LastSpeakers") ∈ lw_tbl := lw_at lw_m3 11 rfl
theorem q594 : (Jvm.Cond.fieldLinkNest "LastSpeakers" (334 : Nat) "LastSpeakers$Hearing" "thing" "I" "LastSpeakers") ∈ lw_tbl := lw_at lw_m3 16 rfl
theorem q596 : (Jvm.Cond.fieldLinkNest "LastSpeakers" (335 : Nat) "LastSpeakers$Hearing" "person" "I" "LastSpeakers") ∈ lw_tbl := lw_at lw_m3 18 rfl
theorem q598 : (Jvm.Cond.fieldLinkNest "LastSpeakers" (336 : Nat) "LastSpeakers$Hearing" "version" "I" "LastSpeakers") ∈ lw_tbl := lw_at lw_m3 20 rfl
theorem q600 : (Jvm.Cond.fieldLinkNest "LastSpeakers" (339 : Nat) "LastSpeakers$Hearing" "hint" "I" "LastSpeakers") ∈ lw_tbl := lw_at lw_m3 22 rfl
theorem q611 : (Jvm.Cond.methodLink "LastSpeakers" (88 : Nat) ({ cls := "LastSpeakers$Image", name := "<init>", desc := "()V" } : Jvm.MethodName)) ∈ lw_all := lw_g (lw_at lw_m3 33 rfl) rfl
theorem q620 : (Jvm.Cond.fieldLinkNest "LastSpeakers" (371 : Nat) "LastSpeakers$Image" "logs" "[LLastSpeakers$Entry;" "LastSpeakers") ∈ lw_tbl := lw_at lw_m3 42 rfl
theorem q622 : (Jvm.Cond.fieldLinkNest "LastSpeakers" (376 : Nat) "LastSpeakers$Image" "hearings" "[LLastSpeakers$Hearing;" "LastSpeakers") ∈ lw_tbl := lw_at lw_m3 44 rfl
theorem q624 : (Jvm.Cond.fieldLinkNest "LastSpeakers" (367 : Nat) "LastSpeakers$Image" "isThere" "[Z" "LastSpeakers") ∈ lw_tbl := lw_at lw_m3 46 rfl
theorem q626 : (Jvm.Cond.fieldLinkNest "LastSpeakers" (369 : Nat) "LastSpeakers$Image" "asked" "[I" "LastSpeakers") ∈ lw_tbl := lw_at lw_m3 48 rfl
theorem q627 : (Jvm.Cond.fieldLinkNest "LastSpeakers" (116 : Nat) "LastSpeakers$Image" "is" "Z" "LastSpeakers") ∈ lw_tbl := lw_at lw_m3 49 rfl
theorem q628 : (Jvm.Cond.fieldLinkNest "LastSpeakers" (361 : Nat) "LastSpeakers$Image" "had" "I" "LastSpeakers") ∈ lw_tbl := lw_at lw_m3 50 rfl
theorem q629 : (Jvm.Cond.fieldLinkNest "LastSpeakers" (362 : Nat) "LastSpeakers$Image" "hour" "I" "LastSpeakers") ∈ lw_tbl := lw_at lw_m3 51 rfl
theorem q630 : (Jvm.Cond.fieldLinkNest "LastSpeakers" (363 : Nat) "LastSpeakers$Image" "last" "I" "LastSpeakers") ∈ lw_tbl := lw_at lw_m3 52 rfl
theorem q631 : (Jvm.Cond.fieldLinkNest "LastSpeakers" (365 : Nat) "LastSpeakers$Image" "logMany" "I" "LastSpeakers") ∈ lw_tbl := lw_at lw_m3 53 rfl
theorem q632 : (Jvm.Cond.fieldLinkNest "LastSpeakers" (366 : Nat) "LastSpeakers$Image" "hearingMany" "I" "LastSpeakers") ∈ lw_tbl := lw_at lw_m3 54 rfl
theorem q633 : (Jvm.Cond.fieldLinkNest "LastSpeakers" (364 : Nat) "LastSpeakers$Image" "lots" "J" "LastSpeakers") ∈ lw_tbl := lw_at lw_m3 55 rfl
theorem q657 : (Jvm.Cond.fieldLink "LastSpeakers" (1 : Nat) "LastSpeakers" "text" "[B") ∈ lw_all := lw_g (lw_at lw_m3 79 rfl) rfl
theorem q658 : (Jvm.Cond.fieldLink "LastSpeakers" (7 : Nat) "LastSpeakers" "textMany" "I") ∈ lw_all := lw_g (lw_at lw_m3 80 rfl) rfl
theorem q659 : (Jvm.Cond.fieldLink "LastSpeakers" (93 : Nat) "LastSpeakers" "tongue" "LLastSpeakers$Tongue;") ∈ lw_all := lw_g (lw_at lw_m3 81 rfl) rfl
theorem q660 : (Jvm.Cond.fieldLink "LastSpeakers" (94 : Nat) "LastSpeakers" "had" "I") ∈ lw_all := lw_g (lw_at lw_m3 82 rfl) rfl
theorem q661 : (Jvm.Cond.fieldLink "LastSpeakers" (97 : Nat) "LastSpeakers" "hour" "I") ∈ lw_all := lw_g (lw_at lw_m3 83 rfl) rfl
theorem q662 : (Jvm.Cond.fieldLink "LastSpeakers" (100 : Nat) "LastSpeakers" "last" "I") ∈ lw_all := lw_g (lw_at lw_m3 84 rfl) rfl
theorem q663 : (Jvm.Cond.fieldLink "LastSpeakers" (103 : Nat) "LastSpeakers" "lots" "J") ∈ lw_all := lw_g (lw_at lw_m3 85 rfl) rfl
theorem q664 : (Jvm.Cond.fieldLink "LastSpeakers" (36 : Nat) "LastSpeakers" "logs" "[LLastSpeakers$Entry;") ∈ lw_all := lw_g (lw_at lw_m3 86 rfl) rfl
theorem q665 : (Jvm.Cond.fieldLink "LastSpeakers" (107 : Nat) "LastSpeakers" "logMany" "I") ∈ lw_all := lw_g (lw_at lw_m3 87 rfl) rfl
theorem q666 : (Jvm.Cond.fieldLink "LastSpeakers" (40 : Nat) "LastSpeakers" "canAsk" "[Z") ∈ lw_all := lw_g (lw_at lw_m3 88 rfl) rfl
theorem q667 : (Jvm.Cond.fieldLink "LastSpeakers" (44 : Nat) "LastSpeakers" "canEnd" "[Z") ∈ lw_all := lw_g (lw_at lw_m3 89 rfl) rfl
theorem q668 : (Jvm.Cond.fieldLink "LastSpeakers" (272 : Nat) "LastSpeakers" "bestHeap" "I") ∈ lw_all := lw_g (lw_at lw_m3 90 rfl) rfl
theorem q669 : (Jvm.Cond.fieldLink "LastSpeakers" (260 : Nat) "LastSpeakers" "bestWorth" "I") ∈ lw_all := lw_g (lw_at lw_m3 91 rfl) rfl
theorem q670 : (Jvm.Cond.fieldLink "LastSpeakers" (269 : Nat) "LastSpeakers" "bestHours" "I") ∈ lw_all := lw_g (lw_at lw_m3 92 rfl) rfl
theorem q671 : (Jvm.Cond.fieldLink "LastSpeakers" (49 : Nat) "LastSpeakers" "values" "[[[I") ∈ lw_all := lw_g (lw_at lw_m3 93 rfl) rfl
theorem q672 : (Jvm.Cond.fieldLink "LastSpeakers" (293 : Nat) "LastSpeakers" "bestPerson" "I") ∈ lw_all := lw_g (lw_at lw_m3 94 rfl) rfl
theorem q673 : (Jvm.Cond.fieldLink "LastSpeakers" (299 : Nat) "LastSpeakers" "bestThing" "I") ∈ lw_all := lw_g (lw_at lw_m3 95 rfl) rfl
theorem q674 : (Jvm.Cond.fieldLink "LastSpeakers" (52 : Nat) "LastSpeakers" "rowPerson" "[I") ∈ lw_all := lw_g (lw_at lw_m3 96 rfl) rfl
theorem q675 : (Jvm.Cond.fieldLink "LastSpeakers" (56 : Nat) "LastSpeakers" "rowThing" "[I") ∈ lw_all := lw_g (lw_at lw_m3 97 rfl) rfl
theorem q676 : (Jvm.Cond.fieldLink "LastSpeakers" (59 : Nat) "LastSpeakers" "shares" "[J") ∈ lw_all := lw_g (lw_at lw_m3 98 rfl) rfl
theorem q677 : (Jvm.Cond.fieldLink "LastSpeakers" (63 : Nat) "LastSpeakers" "shared" "[J") ∈ lw_all := lw_g (lw_at lw_m3 99 rfl) rfl
theorem q678 : (Jvm.Cond.fieldLink "LastSpeakers" (113 : Nat) "LastSpeakers" "rowMany" "I") ∈ lw_all := lw_g (lw_at lw_m3 100 rfl) rfl
theorem q679 : (Jvm.Cond.fieldLink "LastSpeakers" (68 : Nat) "LastSpeakers" "hearings" "[LLastSpeakers$Hearing;") ∈ lw_all := lw_g (lw_at lw_m3 101 rfl) rfl
theorem q680 : (Jvm.Cond.fieldLink "LastSpeakers" (74 : Nat) "LastSpeakers" "books" "[[I") ∈ lw_all := lw_g (lw_at lw_m3 102 rfl) rfl
theorem q681 : (Jvm.Cond.fieldLink "LastSpeakers" (77 : Nat) "LastSpeakers" "rights" "[[I") ∈ lw_all := lw_g (lw_at lw_m3 103 rfl) rfl
theorem q682 : (Jvm.Cond.fieldLink "LastSpeakers" (110 : Nat) "LastSpeakers" "hearingMany" "I") ∈ lw_all := lw_g (lw_at lw_m3 104 rfl) rfl
theorem q683 : (Jvm.Cond.fieldLink "LastSpeakers" (82 : Nat) "LastSpeakers" "images" "[LLastSpeakers$Image;") ∈ lw_all := lw_g (lw_at lw_m3 105 rfl) rfl
theorem q684 : (Jvm.Cond.laysFinal "LastSpeakers" "LastSpeakers" "text" "[B") ∈ lw_all := lw_g (lw_at lw_m3 106 rfl) rfl
theorem q685 : (Jvm.Cond.soleField "LastSpeakers" "text") ∈ lw_all := lw_g (lw_at lw_m3 107 rfl) rfl
theorem q686 : (Jvm.Cond.lays "LastSpeakers" "LastSpeakers" "textMany" "I") ∈ lw_all := lw_g (lw_at lw_m3 108 rfl) rfl
theorem q687 : (Jvm.Cond.soleField "LastSpeakers" "textMany") ∈ lw_all := lw_g (lw_at lw_m3 109 rfl) rfl
theorem q688 : (Jvm.Cond.lays "LastSpeakers" "LastSpeakers" "tongue" "LLastSpeakers$Tongue;") ∈ lw_all := lw_g (lw_at lw_m3 110 rfl) rfl
theorem q689 : (Jvm.Cond.soleField "LastSpeakers" "tongue") ∈ lw_all := lw_g (lw_at lw_m3 111 rfl) rfl
theorem q690 : (Jvm.Cond.lays "LastSpeakers" "LastSpeakers" "had" "I") ∈ lw_all := lw_g (lw_at lw_m3 112 rfl) rfl
theorem q691 : (Jvm.Cond.soleField "LastSpeakers" "had") ∈ lw_all := lw_g (lw_at lw_m3 113 rfl) rfl
theorem q692 : (Jvm.Cond.lays "LastSpeakers" "LastSpeakers" "hour" "I") ∈ lw_all := lw_g (lw_at lw_m3 114 rfl) rfl
theorem q693 : (Jvm.Cond.soleField "LastSpeakers" "hour") ∈ lw_all := lw_g (lw_at lw_m3 115 rfl) rfl
theorem q694 : (Jvm.Cond.lays "LastSpeakers" "LastSpeakers" "last" "I") ∈ lw_all := lw_g (lw_at lw_m3 116 rfl) rfl
theorem q695 : (Jvm.Cond.soleField "LastSpeakers" "last") ∈ lw_all := lw_g (lw_at lw_m3 117 rfl) rfl
theorem q696 : (Jvm.Cond.lays "LastSpeakers" "LastSpeakers" "lots" "J") ∈ lw_all := lw_g (lw_at lw_m3 118 rfl) rfl
theorem q697 : (Jvm.Cond.soleField "LastSpeakers" "lots") ∈ lw_all := lw_g (lw_at lw_m3 119 rfl) rfl
theorem q698 : (Jvm.Cond.laysFinal "LastSpeakers" "LastSpeakers" "logs" "[LLastSpeakers$Entry;") ∈ lw_all := lw_g (lw_at lw_m3 120 rfl) rfl
theorem q699 : (Jvm.Cond.soleField "LastSpeakers" "logs") ∈ lw_all := lw_g (lw_at lw_m3 121 rfl) rfl
theorem q700 : (Jvm.Cond.lays "LastSpeakers" "LastSpeakers" "logMany" "I") ∈ lw_all := lw_g (lw_at lw_m3 122 rfl) rfl
theorem q701 : (Jvm.Cond.soleField "LastSpeakers" "logMany") ∈ lw_all := lw_g (lw_at lw_m3 123 rfl) rfl
theorem q702 : (Jvm.Cond.laysFinal "LastSpeakers" "LastSpeakers" "canAsk" "[Z") ∈ lw_all := lw_g (lw_at lw_m3 124 rfl) rfl
theorem q703 : (Jvm.Cond.soleField "LastSpeakers" "canAsk") ∈ lw_all := lw_g (lw_at lw_m3 125 rfl) rfl
theorem q704 : (Jvm.Cond.laysFinal "LastSpeakers" "LastSpeakers" "canEnd" "[Z") ∈ lw_all := lw_g (lw_at lw_m3 126 rfl) rfl
theorem q705 : (Jvm.Cond.soleField "LastSpeakers" "canEnd") ∈ lw_all := lw_g (lw_at lw_m3 127 rfl) rfl
theorem q706 : (Jvm.Cond.lays "LastSpeakers" "LastSpeakers" "bestHeap" "I") ∈ lw_all := lw_g (lw_at lw_m3 128 rfl) rfl
theorem q707 : (Jvm.Cond.soleField "LastSpeakers" "bestHeap") ∈ lw_all := lw_g (lw_at lw_m3 129 rfl) rfl
theorem q708 : (Jvm.Cond.lays "LastSpeakers" "LastSpeakers" "bestWorth" "I") ∈ lw_all := lw_g (lw_at lw_m3 130 rfl) rfl
theorem q709 : (Jvm.Cond.soleField "LastSpeakers" "bestWorth") ∈ lw_all := lw_g (lw_at lw_m3 131 rfl) rfl
theorem q710 : (Jvm.Cond.lays "LastSpeakers" "LastSpeakers" "bestHours" "I") ∈ lw_all := lw_g (lw_at lw_m3 132 rfl) rfl
theorem q711 : (Jvm.Cond.soleField "LastSpeakers" "bestHours") ∈ lw_all := lw_g (lw_at lw_m3 133 rfl) rfl
theorem q712 : (Jvm.Cond.laysFinal "LastSpeakers" "LastSpeakers" "values" "[[[I") ∈ lw_all := lw_g (lw_at lw_m3 134 rfl) rfl
theorem q713 : (Jvm.Cond.soleField "LastSpeakers" "values") ∈ lw_all := lw_g (lw_at lw_m3 135 rfl) rfl
theorem q714 : (Jvm.Cond.lays "LastSpeakers" "LastSpeakers" "bestPerson" "I") ∈ lw_all := lw_g (lw_at lw_m3 136 rfl) rfl
theorem q715 : (Jvm.Cond.soleField "LastSpeakers" "bestPerson") ∈ lw_all := lw_g (lw_at lw_m3 137 rfl) rfl
theorem q716 : (Jvm.Cond.lays "LastSpeakers" "LastSpeakers" "bestThing" "I") ∈ lw_all := lw_g (lw_at lw_m3 138 rfl) rfl
theorem q717 : (Jvm.Cond.soleField "LastSpeakers" "bestThing") ∈ lw_all := lw_g (lw_at lw_m3 139 rfl) rfl
theorem q718 : (Jvm.Cond.laysFinal "LastSpeakers" "LastSpeakers" "rowPerson" "[I") ∈ lw_all := lw_g (lw_at lw_m3 140 rfl) rfl
theorem q719 : (Jvm.Cond.soleField "LastSpeakers" "rowPerson") ∈ lw_all := lw_g (lw_at lw_m3 141 rfl) rfl
theorem q720 : (Jvm.Cond.laysFinal "LastSpeakers" "LastSpeakers" "rowThing" "[I") ∈ lw_all := lw_g (lw_at lw_m3 142 rfl) rfl
theorem q721 : (Jvm.Cond.soleField "LastSpeakers" "rowThing") ∈ lw_all := lw_g (lw_at lw_m3 143 rfl) rfl
theorem q722 : (Jvm.Cond.laysFinal "LastSpeakers" "LastSpeakers" "shares" "[J") ∈ lw_all := lw_g (lw_at lw_m3 144 rfl) rfl
theorem q723 : (Jvm.Cond.soleField "LastSpeakers" "shares") ∈ lw_all := lw_g (lw_at lw_m3 145 rfl) rfl
theorem q724 : (Jvm.Cond.laysFinal "LastSpeakers" "LastSpeakers" "shared" "[J") ∈ lw_all := lw_g (lw_at lw_m3 146 rfl) rfl
theorem q725 : (Jvm.Cond.soleField "LastSpeakers" "shared") ∈ lw_all := lw_g (lw_at lw_m3 147 rfl) rfl
theorem q726 : (Jvm.Cond.lays "LastSpeakers" "LastSpeakers" "rowMany" "I") ∈ lw_all := lw_g (lw_at lw_m3 148 rfl) rfl
theorem q727 : (Jvm.Cond.soleField "LastSpeakers" "rowMany") ∈ lw_all := lw_g (lw_at lw_m3 149 rfl) rfl
theorem q728 : (Jvm.Cond.laysFinal "LastSpeakers" "LastSpeakers" "hearings" "[LLastSpeakers$Hearing;") ∈ lw_all := lw_g (lw_at lw_m3 150 rfl) rfl
theorem q729 : (Jvm.Cond.soleField "LastSpeakers" "hearings") ∈ lw_all := lw_g (lw_at lw_m3 151 rfl) rfl
theorem q730 : (Jvm.Cond.laysFinal "LastSpeakers" "LastSpeakers" "books" "[[I") ∈ lw_all := lw_g (lw_at lw_m3 152 rfl) rfl
theorem q731 : (Jvm.Cond.soleField "LastSpeakers" "books") ∈ lw_all := lw_g (lw_at lw_m3 153 rfl) rfl
theorem q732 : (Jvm.Cond.laysFinal "LastSpeakers" "LastSpeakers" "rights" "[[I") ∈ lw_all := lw_g (lw_at lw_m3 154 rfl) rfl
theorem q733 : (Jvm.Cond.soleField "LastSpeakers" "rights") ∈ lw_all := lw_g (lw_at lw_m3 155 rfl) rfl
theorem q734 : (Jvm.Cond.lays "LastSpeakers" "LastSpeakers" "hearingMany" "I") ∈ lw_all := lw_g (lw_at lw_m3 156 rfl) rfl
theorem q735 : (Jvm.Cond.soleField "LastSpeakers" "hearingMany") ∈ lw_all := lw_g (lw_at lw_m3 157 rfl) rfl
theorem q736 : (Jvm.Cond.laysFinal "LastSpeakers" "LastSpeakers" "images" "[LLastSpeakers$Image;") ∈ lw_all := lw_g (lw_at lw_m3 158 rfl) rfl
theorem q737 : (Jvm.Cond.soleField "LastSpeakers" "images") ∈ lw_all := lw_g (lw_at lw_m3 159 rfl) rfl
theorem q738 : (Jvm.Cond.superclass "LastSpeakers" "java/lang/Object") ∈ lw_all := lw_g (lw_at lw_m3 160 rfl) rfl
theorem q740 : (Jvm.Cond.instanceMethod ({ cls := "LastSpeakers", name := "tongue", desc := "()I" } : Jvm.MethodName)) ∈ lw_all := lw_g (lw_at lw_m3 162 rfl) rfl
theorem q741 : (Jvm.Cond.selects "LastSpeakers" ({ cls := "LastSpeakers", name := "tongue", desc := "()I" } : Jvm.MethodName) ({ cls := "LastSpeakers", name := "tongue", desc := "()I" } : Jvm.MethodName)) ∈ lw_all := lw_g (lw_at lw_m3 163 rfl) rfl
theorem q742 : (Jvm.Cond.code ({ cls := "LastSpeakers", name := "tongue", desc := "()I" } : Jvm.MethodName) prog_1_method_7_code (3 : Nat) (Option.some Jvm.ClassFile.FieldType.int)) ∈ lw_all := lw_g (lw_at lw_m3 164 rfl) rfl
theorem q743 : (Jvm.Cond.methodLink "LastSpeakers" (126 : Nat) ({ cls := "java/util/ArrayList", name := "size", desc := "()I" } : Jvm.MethodName)) ∈ lw_all := lw_g (lw_at lw_m3 165 rfl) rfl
theorem q745 : (Jvm.Cond.instanceMethod ({ cls := "LastSpeakers", name := "thing", desc := "(II)I" } : Jvm.MethodName)) ∈ lw_all := lw_g (lw_at lw_m3 167 rfl) rfl
theorem q746 : (Jvm.Cond.selects "LastSpeakers" ({ cls := "LastSpeakers", name := "thing", desc := "(II)I" } : Jvm.MethodName) ({ cls := "LastSpeakers", name := "thing", desc := "(II)I" } : Jvm.MethodName)) ∈ lw_all := lw_g (lw_at lw_m3 168 rfl) rfl
theorem q747 : (Jvm.Cond.code ({ cls := "LastSpeakers", name := "thing", desc := "(II)I" } : Jvm.MethodName) prog_1_method_15_code (4 : Nat) (Option.some Jvm.ClassFile.FieldType.int)) ∈ lw_all := lw_g (lw_at lw_m3 169 rfl) rfl
theorem q748 : (Jvm.Cond.methodLink "LastSpeakers" (145 : Nat) ({ cls := "LastSpeakers", name := "isThing", desc := "(I)Z" } : Jvm.MethodName)) ∈ lw_all := lw_g (lw_at lw_m3 170 rfl) rfl
theorem q749 : (Jvm.Cond.privateMethod ({ cls := "LastSpeakers", name := "isThing", desc := "(I)Z" } : Jvm.MethodName)) ∈ lw_tbl := lw_at lw_m3 171 rfl
theorem q750 : (Jvm.Cond.instanceMethod ({ cls := "LastSpeakers", name := "isThing", desc := "(I)Z" } : Jvm.MethodName)) ∈ lw_all := lw_g (lw_at lw_m3 172 rfl) rfl
theorem q751 : (Jvm.Cond.code ({ cls := "LastSpeakers", name := "isThing", desc := "(I)Z" } : Jvm.MethodName) prog_1_method_9_code (2 : Nat) (Option.some Jvm.ClassFile.FieldType.boolean)) ∈ lw_all := lw_g (lw_at lw_m3 173 rfl) rfl
theorem q752 : (Jvm.Cond.methodLink "LastSpeakers" (131 : Nat) ({ cls := "LastSpeakers", name := "many", desc := "()I" } : Jvm.MethodName)) ∈ lw_all := lw_g (lw_at lw_m3 174 rfl) rfl
theorem q753 : (Jvm.Cond.privateMethod ({ cls := "LastSpeakers", name := "many", desc := "()I" } : Jvm.MethodName)) ∈ lw_tbl := lw_at lw_m3 175 rfl
theorem q754 : (Jvm.Cond.instanceMethod ({ cls := "LastSpeakers", name := "many", desc := "()I" } : Jvm.MethodName)) ∈ lw_all := lw_g (lw_at lw_m3 176 rfl) rfl
theorem q755 : (Jvm.Cond.code ({ cls := "LastSpeakers", name := "many", desc := "()I" } : Jvm.MethodName) prog_1_method_8_code (1 : Nat) (Option.some Jvm.ClassFile.FieldType.int)) ∈ lw_all := lw_g (lw_at lw_m3 177 rfl) rfl
theorem q756 : (Jvm.Cond.methodLink "LastSpeakers" (149 : Nat) ({ cls := "LastSpeakers", name := "at", desc := "(I)LLastSpeakers$Thing;" } : Jvm.MethodName)) ∈ lw_all := lw_g (lw_at lw_m3 178 rfl) rfl
theorem q757 : (Jvm.Cond.privateMethod ({ cls := "LastSpeakers", name := "at", desc := "(I)LLastSpeakers$Thing;" } : Jvm.MethodName)) ∈ lw_tbl := lw_at lw_m3 179 rfl
theorem q758 : (Jvm.Cond.instanceMethod ({ cls := "LastSpeakers", name := "at", desc := "(I)LLastSpeakers$Thing;" } : Jvm.MethodName)) ∈ lw_all := lw_g (lw_at lw_m3 180 rfl) rfl
theorem q759 : (Jvm.Cond.code ({ cls := "LastSpeakers", name := "at", desc := "(I)LLastSpeakers$Thing;" } : Jvm.MethodName) prog_1_method_12_code (2 : Nat) (Option.some (Jvm.ClassFile.FieldType.object "LastSpeakers$Thing"))) ∈ lw_all := lw_g (lw_at lw_m3 181 rfl) rfl
theorem q760 : (Jvm.Cond.methodLink "LastSpeakers" (137 : Nat) ({ cls := "java/util/ArrayList", name := "get", desc := "(I)Ljava/lang/Object;" } : Jvm.MethodName)) ∈ lw_all := lw_g (lw_at lw_m3 182 rfl) rfl
theorem q761 : (Jvm.Cond.classLink "LastSpeakers" (141 : Nat) "LastSpeakers$Thing") ∈ lw_all := lw_g (lw_at lw_m3 183 rfl) rfl
theorem q762 : (Jvm.Cond.methodLink "LastSpeakers" (165 : Nat) ({ cls := "LastSpeakers", name := "isHad", desc := "(I)Z" } : Jvm.MethodName)) ∈ lw_all := lw_g (lw_at lw_m3 184 rfl) rfl
theorem q763 : (Jvm.Cond.privateMethod ({ cls := "LastSpeakers", name := "isHad", desc := "(I)Z" } : Jvm.MethodName)) ∈ lw_tbl := lw_at lw_m3 185 rfl
theorem q764 : (Jvm.Cond.instanceMethod ({ cls := "LastSpeakers", name := "isHad", desc := "(I)Z" } : Jvm.MethodName)) ∈ lw_all := lw_g (lw_at lw_m3 186 rfl) rfl
theorem q765 : (Jvm.Cond.code ({ cls := "LastSpeakers", name := "isHad", desc := "(I)Z" } : Jvm.MethodName) prog_1_method_14_code (2 : Nat) (Option.some Jvm.ClassFile.FieldType.boolean)) ∈ lw_all := lw_g (lw_at lw_m3 187 rfl) rfl
theorem q767 : (Jvm.Cond.instanceMethod ({ cls := "LastSpeakers", name := "person", desc := "(II)I" } : Jvm.MethodName)) ∈ lw_all := lw_g (lw_at lw_m3 189 rfl) rfl
theorem q768 : (Jvm.Cond.selects "LastSpeakers" ({ cls := "LastSpeakers", name := "person", desc := "(II)I" } : Jvm.MethodName) ({ cls := "LastSpeakers", name := "person", desc := "(II)I" } : Jvm.MethodName)) ∈ lw_all := lw_g (lw_at lw_m3 190 rfl) rfl
theorem q769 : (Jvm.Cond.code ({ cls := "LastSpeakers", name := "person", desc := "(II)I" } : Jvm.MethodName) prog_1_method_16_code (4 : Nat) (Option.some Jvm.ClassFile.FieldType.int)) ∈ lw_all := lw_g (lw_at lw_m3 191 rfl) rfl
theorem q770 : (Jvm.Cond.methodLink "LastSpeakers" (168 : Nat) ({ cls := "LastSpeakers", name := "isPerson", desc := "(I)Z" } : Jvm.MethodName)) ∈ lw_all := lw_g (lw_at lw_m3 192 rfl) rfl
theorem q771 : (Jvm.Cond.privateMethod ({ cls := "LastSpeakers", name := "isPerson", desc := "(I)Z" } : Jvm.MethodName)) ∈ lw_tbl := lw_at lw_m3 193 rfl
theorem q772 : (Jvm.Cond.instanceMethod ({ cls := "LastSpeakers", name := "isPerson", desc := "(I)Z" } : Jvm.MethodName)) ∈ lw_all := lw_g (lw_at lw_m3 194 rfl) rfl
theorem q773 : (Jvm.Cond.code ({ cls := "LastSpeakers", name := "isPerson", desc := "(I)Z" } : Jvm.MethodName) prog_1_method_10_code (2 : Nat) (Option.some Jvm.ClassFile.FieldType.boolean)) ∈ lw_all := lw_g (lw_at lw_m3 195 rfl) rfl
theorem q774 : (Jvm.Cond.methodLink "LastSpeakers" (171 : Nat) ({ cls := "LastSpeakers", name := "who", desc := "(I)LLastSpeakers$Person;" } : Jvm.MethodName)) ∈ lw_all := lw_g (lw_at lw_m3 196 rfl) rfl
theorem q775 : (Jvm.Cond.privateMethod ({ cls := "LastSpeakers", name := "who", desc := "(I)LLastSpeakers$Person;" } : Jvm.MethodName)) ∈ lw_tbl := lw_at lw_m3 197 rfl
theorem q776 : (Jvm.Cond.instanceMethod ({ cls := "LastSpeakers", name := "who", desc := "(I)LLastSpeakers$Person;" } : Jvm.MethodName)) ∈ lw_all := lw_g (lw_at lw_m3 198 rfl) rfl
theorem q777 : (Jvm.Cond.code ({ cls := "LastSpeakers", name := "who", desc := "(I)LLastSpeakers$Person;" } : Jvm.MethodName) prog_1_method_13_code (2 : Nat) (Option.some (Jvm.ClassFile.FieldType.object "LastSpeakers$Person"))) ∈ lw_all := lw_g (lw_at lw_m3 199 rfl) rfl
theorem q778 : (Jvm.Cond.classLink "LastSpeakers" (143 : Nat) "LastSpeakers$Person") ∈ lw_all := lw_g (lw_at lw_m3 200 rfl) rfl
theorem q780 : (Jvm.Cond.instanceMethod ({ cls := "LastSpeakers", name := "knows", desc := "(III)I" } : Jvm.MethodName)) ∈ lw_all := lw_g (lw_at lw_m3 202 rfl) rfl
theorem q781 : (Jvm.Cond.selects "LastSpeakers" ({ cls := "LastSpeakers", name := "knows", desc := "(III)I" } : Jvm.MethodName) ({ cls := "LastSpeakers", name := "knows", desc := "(III)I" } : Jvm.MethodName)) ∈ lw_all := lw_g (lw_at lw_m3 203 rfl) rfl
theorem q782 : (Jvm.Cond.code ({ cls := "LastSpeakers", name := "knows", desc := "(III)I" } : Jvm.MethodName) prog_1_method_17_code (5 : Nat) (Option.some Jvm.ClassFile.FieldType.int)) ∈ lw_all := lw_g (lw_at lw_m3 204 rfl) rfl
theorem q783 : (Jvm.Cond.methodLink "LastSpeakers" (187 : Nat) ({ cls := "LastSpeakers$Person", name := "knows", desc := "(I)Z" } : Jvm.MethodName)) ∈ lw_all := lw_g (lw_at lw_m3 205 rfl) rfl
theorem q785 : (Jvm.Cond.instanceMethod ({ cls := "LastSpeakers", name := "follows", desc := "(I)I" } : Jvm.MethodName)) ∈ lw_all := lw_g (lw_at lw_m3 207 rfl) rfl
theorem q786 : (Jvm.Cond.selects "LastSpeakers" ({ cls := "LastSpeakers", name := "follows", desc := "(I)I" } : Jvm.MethodName) ({ cls := "LastSpeakers", name := "follows", desc := "(I)I" } : Jvm.MethodName)) ∈ lw_all := lw_g (lw_at lw_m3 208 rfl) rfl
theorem q787 : (Jvm.Cond.code ({ cls := "LastSpeakers", name := "follows", desc := "(I)I" } : Jvm.MethodName) prog_1_method_18_code (2 : Nat) (Option.some Jvm.ClassFile.FieldType.int)) ∈ lw_all := lw_g (lw_at lw_m3 209 rfl) rfl
theorem q788 : (Jvm.Cond.methodLink "LastSpeakers" (193 : Nat) ({ cls := "LastSpeakers", name := "isHeap", desc := "(I)Z" } : Jvm.MethodName)) ∈ lw_all := lw_g (lw_at lw_m3 210 rfl) rfl
theorem q789 : (Jvm.Cond.privateMethod ({ cls := "LastSpeakers", name := "isHeap", desc := "(I)Z" } : Jvm.MethodName)) ∈ lw_tbl := lw_at lw_m3 211 rfl
theorem q790 : (Jvm.Cond.instanceMethod ({ cls := "LastSpeakers", name := "isHeap", desc := "(I)Z" } : Jvm.MethodName)) ∈ lw_all := lw_g (lw_at lw_m3 212 rfl) rfl
theorem q791 : (Jvm.Cond.code ({ cls := "LastSpeakers", name := "isHeap", desc := "(I)Z" } : Jvm.MethodName) prog_1_method_11_code (2 : Nat) (Option.some Jvm.ClassFile.FieldType.boolean)) ∈ lw_all := lw_g (lw_at lw_m3 213 rfl) rfl
theorem q792 : (Jvm.Cond.methodLink "LastSpeakers" (196 : Nat) ({ cls := "LastSpeakers$Tongue", name := "closes", desc := "(II)I" } : Jvm.MethodName)) ∈ lw_all := lw_g (lw_at lw_m3 214 rfl) rfl
theorem q804 : (Jvm.Cond.instanceMethod ({ cls := "LastSpeakers", name := "have", desc := "(I)I" } : Jvm.MethodName)) ∈ lw_all := lw_g (lw_at lw_m3 226 rfl) rfl
theorem q805 : (Jvm.Cond.selects "LastSpeakers" ({ cls := "LastSpeakers", name := "have", desc := "(I)I" } : Jvm.MethodName) ({ cls := "LastSpeakers", name := "have", desc := "(I)I" } : Jvm.MethodName)) ∈ lw_all := lw_g (lw_at lw_m3 227 rfl) rfl
theorem q806 : (Jvm.Cond.code ({ cls := "LastSpeakers", name := "have", desc := "(I)I" } : Jvm.MethodName) prog_1_method_20_code (3 : Nat) (Option.some Jvm.ClassFile.FieldType.int)) ∈ lw_all := lw_g (lw_at lw_m3 228 rfl) rfl
theorem q807 : (Jvm.Cond.methodLink "LastSpeakers" (203 : Nat) ({ cls := "LastSpeakers", name := "brings", desc := "(I)I" } : Jvm.MethodName)) ∈ lw_all := lw_g (lw_at lw_m3 229 rfl) rfl
theorem q808 : (Jvm.Cond.privateMethod ({ cls := "LastSpeakers", name := "brings", desc := "(I)I" } : Jvm.MethodName)) ∈ lw_tbl := lw_at lw_m3 230 rfl
theorem q809 : (Jvm.Cond.instanceMethod ({ cls := "LastSpeakers", name := "brings", desc := "(I)I" } : Jvm.MethodName)) ∈ lw_all := lw_g (lw_at lw_m3 231 rfl) rfl
theorem q810 : (Jvm.Cond.code ({ cls := "LastSpeakers", name := "brings", desc := "(I)I" } : Jvm.MethodName) prog_1_method_19_code (3 : Nat) (Option.some Jvm.ClassFile.FieldType.int)) ∈ lw_all := lw_g (lw_at lw_m3 232 rfl) rfl
theorem q811 : (Jvm.Cond.methodLink "LastSpeakers" (200 : Nat) ({ cls := "LastSpeakers$Tongue", name := "worth", desc := "(I)I" } : Jvm.MethodName)) ∈ lw_all := lw_g (lw_at lw_m3 233 rfl) rfl
theorem q816 : (Jvm.Cond.methodLink "LastSpeakers" (206 : Nat) ({ cls := "java/lang/Integer", name := "bitCount", desc := "(I)I" } : Jvm.MethodName)) ∈ lw_all := lw_g (lw_at lw_m3 238 rfl) rfl
theorem q823 : (Jvm.Cond.instanceMethod ({ cls := "LastSpeakers", name := "seed", desc := "(I)Z" } : Jvm.MethodName)) ∈ lw_all := lw_g (lw_at lw_m4 5 rfl) rfl
theorem q824 : (Jvm.Cond.selects "LastSpeakers" ({ cls := "LastSpeakers", name := "seed", desc := "(I)Z" } : Jvm.MethodName) ({ cls := "LastSpeakers", name := "seed", desc := "(I)Z" } : Jvm.MethodName)) ∈ lw_all := lw_g (lw_at lw_m4 6 rfl) rfl
theorem q825 : (Jvm.Cond.code ({ cls := "LastSpeakers", name := "seed", desc := "(I)Z" } : Jvm.MethodName) prog_1_method_22_code (2 : Nat) (Option.some Jvm.ClassFile.FieldType.boolean)) ∈ lw_all := lw_g (lw_at lw_m4 7 rfl) rfl
theorem q826 : (Jvm.Cond.constantLong "LastSpeakers" (219 : Nat) (1000000 : Int64)) ∈ lw_all := lw_g (lw_at lw_m4 8 rfl) rfl
theorem q828 : (Jvm.Cond.instanceMethod ({ cls := "LastSpeakers", name := "rest", desc := "(I)I" } : Jvm.MethodName)) ∈ lw_all := lw_g (lw_at lw_m4 10 rfl) rfl
theorem q829 : (Jvm.Cond.selects "LastSpeakers" ({ cls := "LastSpeakers", name := "rest", desc := "(I)I" } : Jvm.MethodName) ({ cls := "LastSpeakers", name := "rest", desc := "(I)I" } : Jvm.MethodName)) ∈ lw_all := lw_g (lw_at lw_m4 11 rfl) rfl
theorem q830 : (Jvm.Cond.code ({ cls := "LastSpeakers", name := "rest", desc := "(I)I" } : Jvm.MethodName) prog_1_method_24_code (2 : Nat) (Option.some Jvm.ClassFile.FieldType.int)) ∈ lw_all := lw_g (lw_at lw_m4 12 rfl) rfl
theorem q831 : (Jvm.Cond.constantLong "LastSpeakers" (227 : Nat) (100 : Int64)) ∈ lw_all := lw_g (lw_at lw_m4 13 rfl) rfl
theorem q832 : (Jvm.Cond.methodLink "LastSpeakers" (229 : Nat) ({ cls := "LastSpeakers", name := "passes", desc := "(I)V" } : Jvm.MethodName)) ∈ lw_all := lw_g (lw_at lw_m4 14 rfl) rfl
theorem q833 : (Jvm.Cond.privateMethod ({ cls := "LastSpeakers", name := "passes", desc := "(I)V" } : Jvm.MethodName)) ∈ lw_tbl := lw_at lw_m4 15 rfl
theorem q834 : (Jvm.Cond.instanceMethod ({ cls := "LastSpeakers", name := "passes", desc := "(I)V" } : Jvm.MethodName)) ∈ lw_all := lw_g (lw_at lw_m4 16 rfl) rfl
theorem q835 : (Jvm.Cond.code ({ cls := "LastSpeakers", name := "passes", desc := "(I)V" } : Jvm.MethodName) prog_1_method_23_code (5 : Nat) (Option.none : Option Jvm.ClassFile.FieldType)) ∈ lw_all := lw_g (lw_at lw_m4 17 rfl) rfl
theorem q836 : (Jvm.Cond.methodLink "LastSpeakers" (224 : Nat) ({ cls := "LastSpeakers", name := "lot", desc := "(I)I" } : Jvm.MethodName)) ∈ lw_all := lw_g (lw_at lw_m4 18 rfl) rfl
theorem q837 : (Jvm.Cond.privateMethod ({ cls := "LastSpeakers", name := "lot", desc := "(I)I" } : Jvm.MethodName)) ∈ lw_tbl := lw_at lw_m4 19 rfl
theorem q838 : (Jvm.Cond.instanceMethod ({ cls := "LastSpeakers", name := "lot", desc := "(I)I" } : Jvm.MethodName)) ∈ lw_all := lw_g (lw_at lw_m4 20 rfl) rfl
theorem q839 : (Jvm.Cond.code ({ cls := "LastSpeakers", name := "lot", desc := "(I)I" } : Jvm.MethodName) prog_1_method_21_code (2 : Nat) (Option.some Jvm.ClassFile.FieldType.int)) ∈ lw_all := lw_g (lw_at lw_m4 21 rfl) rfl
theorem q840 : (Jvm.Cond.constantLong "LastSpeakers" (211 : Nat) (1103515245 : Int64)) ∈ lw_all := lw_g (lw_at lw_m4 22 rfl) rfl
theorem q841 : (Jvm.Cond.constantLong "LastSpeakers" (213 : Nat) (12345 : Int64)) ∈ lw_all := lw_g (lw_at lw_m4 23 rfl) rfl
theorem q842 : (Jvm.Cond.constantLong "LastSpeakers" (215 : Nat) (2147483647 : Int64)) ∈ lw_all := lw_g (lw_at lw_m4 24 rfl) rfl
theorem q843 : (Jvm.Cond.constantLong "LastSpeakers" (217 : Nat) (256 : Int64)) ∈ lw_all := lw_g (lw_at lw_m4 25 rfl) rfl
theorem q845 : (Jvm.Cond.instanceMethod ({ cls := "LastSpeakers", name := "may", desc := "(II)I" } : Jvm.MethodName)) ∈ lw_all := lw_g (lw_at lw_m4 27 rfl) rfl
theorem q846 : (Jvm.Cond.selects "LastSpeakers" ({ cls := "LastSpeakers", name := "may", desc := "(II)I" } : Jvm.MethodName) ({ cls := "LastSpeakers", name := "may", desc := "(II)I" } : Jvm.MethodName)) ∈ lw_all := lw_g (lw_at lw_m4 28 rfl) rfl
theorem q847 : (Jvm.Cond.code ({ cls := "LastSpeakers", name := "may", desc := "(II)I" } : Jvm.MethodName) prog_1_method_27_code (3 : Nat) (Option.some Jvm.ClassFile.FieldType.int)) ∈ lw_all := lw_g (lw_at lw_m4 29 rfl) rfl
theorem q848 : (Jvm.Cond.methodLink "LastSpeakers" (236 : Nat) ({ cls := "LastSpeakers", name := "mayNow", desc := "(II)Z" } : Jvm.MethodName)) ∈ lw_all := lw_g (lw_at lw_m4 30 rfl) rfl
theorem q849 : (Jvm.Cond.privateMethod ({ cls := "LastSpeakers", name := "mayNow", desc := "(II)Z" } : Jvm.MethodName)) ∈ lw_tbl := lw_at lw_m4 31 rfl
theorem q850 : (Jvm.Cond.instanceMethod ({ cls := "LastSpeakers", name := "mayNow", desc := "(II)Z" } : Jvm.MethodName)) ∈ lw_all := lw_g (lw_at lw_m4 32 rfl) rfl
theorem q851 : (Jvm.Cond.code ({ cls := "LastSpeakers", name := "mayNow", desc := "(II)Z" } : Jvm.MethodName) prog_1_method_26_code (4 : Nat) (Option.some Jvm.ClassFile.FieldType.boolean)) ∈ lw_all := lw_g (lw_at lw_m4 33 rfl) rfl
theorem q852 : (Jvm.Cond.methodLink "LastSpeakers" (232 : Nat) ({ cls := "LastSpeakers", name := "canLean", desc := "(II)Z" } : Jvm.MethodName)) ∈ lw_all := lw_g (lw_at lw_m4 34 rfl) rfl
theorem q853 : (Jvm.Cond.privateMethod ({ cls := "LastSpeakers", name := "canLean", desc := "(II)Z" } : Jvm.MethodName)) ∈ lw_tbl := lw_at lw_m4 35 rfl
theorem q854 : (Jvm.Cond.instanceMethod ({ cls := "LastSpeakers", name := "canLean", desc := "(II)Z" } : Jvm.MethodName)) ∈ lw_all := lw_g (lw_at lw_m4 36 rfl) rfl
theorem q855 : (Jvm.Cond.code ({ cls := "LastSpeakers", name := "canLean", desc := "(II)Z" } : Jvm.MethodName) prog_1_method_25_code (3 : Nat) (Option.some Jvm.ClassFile.FieldType.boolean)) ∈ lw_all := lw_g (lw_at lw_m4 37 rfl) rfl
theorem q857 : (Jvm.Cond.instanceMethod ({ cls := "LastSpeakers", name := "ask", desc := "(II)I" } : Jvm.MethodName)) ∈ lw_all := lw_g (lw_at lw_m4 39 rfl) rfl
theorem q858 : (Jvm.Cond.selects "LastSpeakers" ({ cls := "LastSpeakers", name := "ask", desc := "(II)I" } : Jvm.MethodName) ({ cls := "LastSpeakers", name := "ask", desc := "(II)I" } : Jvm.MethodName)) ∈ lw_all := lw_g (lw_at lw_m4 40 rfl) rfl
theorem q859 : (Jvm.Cond.code ({ cls := "LastSpeakers", name := "ask", desc := "(II)I" } : Jvm.MethodName) prog_1_method_30_code (6 : Nat) (Option.some Jvm.ClassFile.FieldType.int)) ∈ lw_all := lw_g (lw_at lw_m4 41 rfl) rfl
theorem q860 : (Jvm.Cond.methodLink "LastSpeakers" (249 : Nat) ({ cls := "LastSpeakers", name := "spoon", desc := "(LLastSpeakers$Person;)I" } : Jvm.MethodName)) ∈ lw_all := lw_g (lw_at lw_m4 42 rfl) rfl
theorem q861 : (Jvm.Cond.privateMethod ({ cls := "LastSpeakers", name := "spoon", desc := "(LLastSpeakers$Person;)I" } : Jvm.MethodName)) ∈ lw_tbl := lw_at lw_m4 43 rfl
theorem q862 : (Jvm.Cond.instanceMethod ({ cls := "LastSpeakers", name := "spoon", desc := "(LLastSpeakers$Person;)I" } : Jvm.MethodName)) ∈ lw_all := lw_g (lw_at lw_m4 44 rfl) rfl
theorem q863 : (Jvm.Cond.code ({ cls := "LastSpeakers", name := "spoon", desc := "(LLastSpeakers$Person;)I" } : Jvm.MethodName) prog_1_method_29_code (3 : Nat) (Option.some Jvm.ClassFile.FieldType.int)) ∈ lw_all := lw_g (lw_at lw_m4 45 rfl) rfl
theorem q864 : (Jvm.Cond.methodLink "LastSpeakers" (253 : Nat) ({ cls := "LastSpeakers", name := "notes", desc := "(III)V" } : Jvm.MethodName)) ∈ lw_all := lw_g (lw_at lw_m4 46 rfl) rfl
theorem q865 : (Jvm.Cond.privateMethod ({ cls := "LastSpeakers", name := "notes", desc := "(III)V" } : Jvm.MethodName)) ∈ lw_tbl := lw_at lw_m4 47 rfl
theorem q866 : (Jvm.Cond.instanceMethod ({ cls := "LastSpeakers", name := "notes", desc := "(III)V" } : Jvm.MethodName)) ∈ lw_all := lw_g (lw_at lw_m4 48 rfl) rfl
theorem q867 : (Jvm.Cond.code ({ cls := "LastSpeakers", name := "notes", desc := "(III)V" } : Jvm.MethodName) prog_1_method_28_code (6 : Nat) (Option.none : Option Jvm.ClassFile.FieldType)) ∈ lw_all := lw_g (lw_at lw_m4 49 rfl) rfl
theorem q869 : (Jvm.Cond.instanceMethod ({ cls := "LastSpeakers", name := "log", desc := "(II)I" } : Jvm.MethodName)) ∈ lw_all := lw_g (lw_at lw_m4 51 rfl) rfl
theorem q870 : (Jvm.Cond.selects "LastSpeakers" ({ cls := "LastSpeakers", name := "log", desc := "(II)I" } : Jvm.MethodName) ({ cls := "LastSpeakers", name := "log", desc := "(II)I" } : Jvm.MethodName)) ∈ lw_all := lw_g (lw_at lw_m4 52 rfl) rfl
theorem q871 : (Jvm.Cond.code ({ cls := "LastSpeakers", name := "log", desc := "(II)I" } : Jvm.MethodName) prog_1_method_31_code (4 : Nat) (Option.some Jvm.ClassFile.FieldType.int)) ∈ lw_all := lw_g (lw_at lw_m4 53 rfl) rfl
theorem q873 : (Jvm.Cond.instanceMethod ({ cls := "LastSpeakers", name := "most", desc := "()I" } : Jvm.MethodName)) ∈ lw_all := lw_g (lw_at lw_m4 55 rfl) rfl
theorem q874 : (Jvm.Cond.selects "LastSpeakers" ({ cls := "LastSpeakers", name := "most", desc := "()I" } : Jvm.MethodName) ({ cls := "LastSpeakers", name := "most", desc := "()I" } : Jvm.MethodName)) ∈ lw_all := lw_g (lw_at lw_m4 56 rfl) rfl
theorem q875 : (Jvm.Cond.code ({ cls := "LastSpeakers", name := "most", desc := "()I" } : Jvm.MethodName) prog_1_method_32_code (3 : Nat) (Option.some Jvm.ClassFile.FieldType.int)) ∈ lw_all := lw_g (lw_at lw_m4 57 rfl) rfl
theorem q877 : (Jvm.Cond.instanceMethod ({ cls := "LastSpeakers", name := "best", desc := "(II)I" } : Jvm.MethodName)) ∈ lw_all := lw_g (lw_at lw_m4 59 rfl) rfl
theorem q878 : (Jvm.Cond.selects "LastSpeakers" ({ cls := "LastSpeakers", name := "best", desc := "(II)I" } : Jvm.MethodName) ({ cls := "LastSpeakers", name := "best", desc := "(II)I" } : Jvm.MethodName)) ∈ lw_all := lw_g (lw_at lw_m4 60 rfl) rfl
theorem q879 : (Jvm.Cond.code ({ cls := "LastSpeakers", name := "best", desc := "(II)I" } : Jvm.MethodName) prog_1_method_37_code (3 : Nat) (Option.some Jvm.ClassFile.FieldType.int)) ∈ lw_all := lw_g (lw_at lw_m4 61 rfl) rfl
theorem q880 : (Jvm.Cond.methodLink "LastSpeakers" (277 : Nat) ({ cls := "LastSpeakers", name := "areHours", desc := "(I)Z" } : Jvm.MethodName)) ∈ lw_all := lw_g (lw_at lw_m4 62 rfl) rfl
theorem q881 : (Jvm.Cond.privateMethod ({ cls := "LastSpeakers", name := "areHours", desc := "(I)Z" } : Jvm.MethodName)) ∈ lw_tbl := lw_at lw_m4 63 rfl
theorem q882 : (Jvm.Cond.instanceMethod ({ cls := "LastSpeakers", name := "areHours", desc := "(I)Z" } : Jvm.MethodName)) ∈ lw_all := lw_g (lw_at lw_m4 64 rfl) rfl
theorem q883 : (Jvm.Cond.code ({ cls := "LastSpeakers", name := "areHours", desc := "(I)Z" } : Jvm.MethodName) prog_1_method_36_code (2 : Nat) (Option.some Jvm.ClassFile.FieldType.boolean)) ∈ lw_all := lw_g (lw_at lw_m4 65 rfl) rfl
theorem q884 : (Jvm.Cond.constantLong "LastSpeakers" (275 : Nat) (90 : Int64)) ∈ lw_all := lw_g (lw_at lw_m4 66 rfl) rfl
theorem q885 : (Jvm.Cond.constantLong "LastSpeakers" (280 : Nat) (2 : Int64)) ∈ lw_all := lw_g (lw_at lw_m4 67 rfl) rfl
theorem q886 : (Jvm.Cond.methodLink "LastSpeakers" (282 : Nat) ({ cls := "LastSpeakers", name := "findsBest", desc := "(II)V" } : Jvm.MethodName)) ∈ lw_all := lw_g (lw_at lw_m4 68 rfl) rfl
theorem q887 : (Jvm.Cond.privateMethod ({ cls := "LastSpeakers", name := "findsBest", desc := "(II)V" } : Jvm.MethodName)) ∈ lw_tbl := lw_at lw_m4 69 rfl
theorem q888 : (Jvm.Cond.instanceMethod ({ cls := "LastSpeakers", name := "findsBest", desc := "(II)V" } : Jvm.MethodName)) ∈ lw_all := lw_g (lw_at lw_m4 70 rfl) rfl
theorem q889 : (Jvm.Cond.code ({ cls := "LastSpeakers", name := "findsBest", desc := "(II)V" } : Jvm.MethodName) prog_1_method_35_code (7 : Nat) (Option.none : Option Jvm.ClassFile.FieldType)) ∈ lw_all := lw_g (lw_at lw_m4 71 rfl) rfl
theorem q890 : (Jvm.Cond.methodLink "LastSpeakers" (257 : Nat) ({ cls := "LastSpeakers", name := "known", desc := "()I" } : Jvm.MethodName)) ∈ lw_all := lw_g (lw_at lw_m4 72 rfl) rfl
theorem q891 : (Jvm.Cond.privateMethod ({ cls := "LastSpeakers", name := "known", desc := "()I" } : Jvm.MethodName)) ∈ lw_tbl := lw_at lw_m4 73 rfl
theorem q892 : (Jvm.Cond.instanceMethod ({ cls := "LastSpeakers", name := "known", desc := "()I" } : Jvm.MethodName)) ∈ lw_all := lw_g (lw_at lw_m4 74 rfl) rfl
theorem q893 : (Jvm.Cond.code ({ cls := "LastSpeakers", name := "known", desc := "()I" } : Jvm.MethodName) prog_1_method_33_code (4 : Nat) (Option.some Jvm.ClassFile.FieldType.int)) ∈ lw_all := lw_g (lw_at lw_m4 75 rfl) rfl
theorem q894 : (Jvm.Cond.methodLink "LastSpeakers" (263 : Nat) ({ cls := "LastSpeakers", name := "isLast", desc := "(IIII)Z" } : Jvm.MethodName)) ∈ lw_all := lw_g (lw_at lw_m4 76 rfl) rfl
theorem q895 : (Jvm.Cond.privateMethod ({ cls := "LastSpeakers", name := "isLast", desc := "(IIII)Z" } : Jvm.MethodName)) ∈ lw_tbl := lw_at lw_m4 77 rfl
theorem q896 : (Jvm.Cond.instanceMethod ({ cls := "LastSpeakers", name := "isLast", desc := "(IIII)Z" } : Jvm.MethodName)) ∈ lw_all := lw_g (lw_at lw_m4 78 rfl) rfl
theorem q897 : (Jvm.Cond.code ({ cls := "LastSpeakers", name := "isLast", desc := "(IIII)Z" } : Jvm.MethodName) prog_1_method_34_code (6 : Nat) (Option.some Jvm.ClassFile.FieldType.boolean)) ∈ lw_all := lw_g (lw_at lw_m4 79 rfl) rfl
theorem q898 : (Jvm.Cond.methodLink "LastSpeakers" (267 : Nat) ({ cls := "LastSpeakers$Tongue", name := "hours", desc := "(I)I" } : Jvm.MethodName)) ∈ lw_all := lw_g (lw_at lw_m4 80 rfl) rfl
theorem q903 : (Jvm.Cond.instanceMethod ({ cls := "LastSpeakers", name := "order", desc := "(II)I" } : Jvm.MethodName)) ∈ lw_all := lw_g (lw_at lw_m4 85 rfl) rfl
theorem q904 : (Jvm.Cond.selects "LastSpeakers" ({ cls := "LastSpeakers", name := "order", desc := "(II)I" } : Jvm.MethodName) ({ cls := "LastSpeakers", name := "order", desc := "(II)I" } : Jvm.MethodName)) ∈ lw_all := lw_g (lw_at lw_m4 86 rfl) rfl
theorem q905 : (Jvm.Cond.code ({ cls := "LastSpeakers", name := "order", desc := "(II)I" } : Jvm.MethodName) prog_1_method_38_code (7 : Nat) (Option.some Jvm.ClassFile.FieldType.int)) ∈ lw_all := lw_g (lw_at lw_m4 87 rfl) rfl
theorem q907 : (Jvm.Cond.instanceMethod ({ cls := "LastSpeakers", name := "key", desc := "(II)I" } : Jvm.MethodName)) ∈ lw_all := lw_g (lw_at lw_m4 89 rfl) rfl
theorem q908 : (Jvm.Cond.selects "LastSpeakers" ({ cls := "LastSpeakers", name := "key", desc := "(II)I" } : Jvm.MethodName) ({ cls := "LastSpeakers", name := "key", desc := "(II)I" } : Jvm.MethodName)) ∈ lw_all := lw_g (lw_at lw_m4 90 rfl) rfl
theorem q909 : (Jvm.Cond.code ({ cls := "LastSpeakers", name := "key", desc := "(II)I" } : Jvm.MethodName) prog_1_method_39_code (7 : Nat) (Option.some Jvm.ClassFile.FieldType.int)) ∈ lw_all := lw_g (lw_at lw_m4 91 rfl) rfl
theorem q911 : (Jvm.Cond.instanceMethod ({ cls := "LastSpeakers", name := "lost", desc := "(I)I" } : Jvm.MethodName)) ∈ lw_all := lw_g (lw_at lw_m4 93 rfl) rfl
theorem q912 : (Jvm.Cond.selects "LastSpeakers" ({ cls := "LastSpeakers", name := "lost", desc := "(I)I" } : Jvm.MethodName) ({ cls := "LastSpeakers", name := "lost", desc := "(I)I" } : Jvm.MethodName)) ∈ lw_all := lw_g (lw_at lw_m4 94 rfl) rfl
theorem q913 : (Jvm.Cond.code ({ cls := "LastSpeakers", name := "lost", desc := "(I)I" } : Jvm.MethodName) prog_1_method_41_code (3 : Nat) (Option.some Jvm.ClassFile.FieldType.int)) ∈ lw_all := lw_g (lw_at lw_m4 95 rfl) rfl
theorem q914 : (Jvm.Cond.methodLink "LastSpeakers" (286 : Nat) ({ cls := "LastSpeakers", name := "lostNow", desc := "()I" } : Jvm.MethodName)) ∈ lw_all := lw_g (lw_at lw_m4 96 rfl) rfl
theorem q915 : (Jvm.Cond.privateMethod ({ cls := "LastSpeakers", name := "lostNow", desc := "()I" } : Jvm.MethodName)) ∈ lw_tbl := lw_at lw_m4 97 rfl
theorem q916 : (Jvm.Cond.instanceMethod ({ cls := "LastSpeakers", name := "lostNow", desc := "()I" } : Jvm.MethodName)) ∈ lw_all := lw_g (lw_at lw_m4 98 rfl) rfl
theorem q917 : (Jvm.Cond.code ({ cls := "LastSpeakers", name := "lostNow", desc := "()I" } : Jvm.MethodName) prog_1_method_40_code (5 : Nat) (Option.some Jvm.ClassFile.FieldType.int)) ∈ lw_all := lw_g (lw_at lw_m4 99 rfl) rfl
theorem q919 : (Jvm.Cond.instanceMethod ({ cls := "LastSpeakers", name := "value", desc := "(I)I" } : Jvm.MethodName)) ∈ lw_all := lw_g (lw_at lw_m4 101 rfl) rfl
theorem q920 : (Jvm.Cond.selects "LastSpeakers" ({ cls := "LastSpeakers", name := "value", desc := "(I)I" } : Jvm.MethodName) ({ cls := "LastSpeakers", name := "value", desc := "(I)I" } : Jvm.MethodName)) ∈ lw_all := lw_g (lw_at lw_m4 102 rfl) rfl
theorem q921 : (Jvm.Cond.code ({ cls := "LastSpeakers", name := "value", desc := "(I)I" } : Jvm.MethodName) prog_1_method_48_code (2 : Nat) (Option.some Jvm.ClassFile.FieldType.int)) ∈ lw_all := lw_g (lw_at lw_m4 103 rfl) rfl
theorem q922 : (Jvm.Cond.methodLink "LastSpeakers" (310 : Nat) ({ cls := "LastSpeakers", name := "areLeft", desc := "(I)Z" } : Jvm.MethodName)) ∈ lw_all := lw_g (lw_at lw_m4 104 rfl) rfl
theorem q923 : (Jvm.Cond.privateMethod ({ cls := "LastSpeakers", name := "areLeft", desc := "(I)Z" } : Jvm.MethodName)) ∈ lw_tbl := lw_at lw_m4 105 rfl
theorem q924 : (Jvm.Cond.instanceMethod ({ cls := "LastSpeakers", name := "areLeft", desc := "(I)Z" } : Jvm.MethodName)) ∈ lw_all := lw_g (lw_at lw_m4 106 rfl) rfl
theorem q925 : (Jvm.Cond.code ({ cls := "LastSpeakers", name := "areLeft", desc := "(I)Z" } : Jvm.MethodName) prog_1_method_47_code (2 : Nat) (Option.some Jvm.ClassFile.FieldType.boolean)) ∈ lw_all := lw_g (lw_at lw_m4 107 rfl) rfl
theorem q926 : (Jvm.Cond.constantLong "LastSpeakers" (308 : Nat) (24 : Int64)) ∈ lw_all := lw_g (lw_at lw_m4 108 rfl) rfl
theorem q927 : (Jvm.Cond.methodLink "LastSpeakers" (313 : Nat) ({ cls := "LastSpeakers", name := "values", desc := "(I)V" } : Jvm.MethodName)) ∈ lw_all := lw_g (lw_at lw_m4 109 rfl) rfl
theorem q928 : (Jvm.Cond.privateMethod ({ cls := "LastSpeakers", name := "values", desc := "(I)V" } : Jvm.MethodName)) ∈ lw_tbl := lw_at lw_m4 110 rfl
theorem q929 : (Jvm.Cond.instanceMethod ({ cls := "LastSpeakers", name := "values", desc := "(I)V" } : Jvm.MethodName)) ∈ lw_all := lw_g (lw_at lw_m4 111 rfl) rfl
theorem q930 : (Jvm.Cond.code ({ cls := "LastSpeakers", name := "values", desc := "(I)V" } : Jvm.MethodName) prog_1_method_42_code (5 : Nat) (Option.none : Option Jvm.ClassFile.FieldType)) ∈ lw_all := lw_g (lw_at lw_m4 112 rfl) rfl
theorem q931 : (Jvm.Cond.methodLink "LastSpeakers" (289 : Nat) ({ cls := "LastSpeakers", name := "valueOf", desc := "(III)I" } : Jvm.MethodName)) ∈ lw_all := lw_g (lw_at lw_m4 113 rfl) rfl
theorem q932 : (Jvm.Cond.privateMethod ({ cls := "LastSpeakers", name := "valueOf", desc := "(III)I" } : Jvm.MethodName)) ∈ lw_tbl := lw_at lw_m4 114 rfl
theorem q933 : (Jvm.Cond.instanceMethod ({ cls := "LastSpeakers", name := "valueOf", desc := "(III)I" } : Jvm.MethodName)) ∈ lw_all := lw_g (lw_at lw_m4 115 rfl) rfl
theorem q934 : (Jvm.Cond.code ({ cls := "LastSpeakers", name := "valueOf", desc := "(III)I" } : Jvm.MethodName) prog_1_method_43_code (8 : Nat) (Option.some Jvm.ClassFile.FieldType.int)) ∈ lw_all := lw_g (lw_at lw_m4 116 rfl) rfl
theorem q935 : (Jvm.Cond.methodLink "LastSpeakers" (296 : Nat) ({ cls := "LastSpeakers", name := "asked", desc := "(IIIII)I" } : Jvm.MethodName)) ∈ lw_all := lw_g (lw_at lw_m4 117 rfl) rfl
theorem q936 : (Jvm.Cond.privateMethod ({ cls := "LastSpeakers", name := "asked", desc := "(IIIII)I" } : Jvm.MethodName)) ∈ lw_tbl := lw_at lw_m4 118 rfl
theorem q937 : (Jvm.Cond.instanceMethod ({ cls := "LastSpeakers", name := "asked", desc := "(IIIII)I" } : Jvm.MethodName)) ∈ lw_all := lw_g (lw_at lw_m4 119 rfl) rfl
theorem q938 : (Jvm.Cond.code ({ cls := "LastSpeakers", name := "asked", desc := "(IIIII)I" } : Jvm.MethodName) prog_1_method_44_code (12 : Nat) (Option.some Jvm.ClassFile.FieldType.int)) ∈ lw_all := lw_g (lw_at lw_m4 120 rfl) rfl
theorem q939 : (Jvm.Cond.methodLink "LastSpeakers" (302 : Nat) ({ cls := "LastSpeakers", name := "mean", desc := "(IIIZ)I" } : Jvm.MethodName)) ∈ lw_all := lw_g (lw_at lw_m4 121 rfl) rfl
theorem q940 : (Jvm.Cond.privateMethod ({ cls := "LastSpeakers", name := "mean", desc := "(IIIZ)I" } : Jvm.MethodName)) ∈ lw_tbl := lw_at lw_m4 122 rfl
theorem q941 : (Jvm.Cond.instanceMethod ({ cls := "LastSpeakers", name := "mean", desc := "(IIIZ)I" } : Jvm.MethodName)) ∈ lw_all := lw_g (lw_at lw_m4 123 rfl) rfl
theorem q942 : (Jvm.Cond.code ({ cls := "LastSpeakers", name := "mean", desc := "(IIIZ)I" } : Jvm.MethodName) prog_1_method_45_code (13 : Nat) (Option.some Jvm.ClassFile.FieldType.int)) ∈ lw_all := lw_g (lw_at lw_m4 124 rfl) rfl
theorem q943 : (Jvm.Cond.constantLong "LastSpeakers" (306 : Nat) (16 : Int64)) ∈ lw_all := lw_g (lw_at lw_m4 125 rfl) rfl
theorem q944 : (Jvm.Cond.methodLink "LastSpeakers" (315 : Nat) ({ cls := "LastSpeakers", name := "thereNow", desc := "()I" } : Jvm.MethodName)) ∈ lw_all := lw_g (lw_at lw_m4 126 rfl) rfl
theorem q945 : (Jvm.Cond.privateMethod ({ cls := "LastSpeakers", name := "thereNow", desc := "()I" } : Jvm.MethodName)) ∈ lw_tbl := lw_at lw_m4 127 rfl
theorem q946 : (Jvm.Cond.instanceMethod ({ cls := "LastSpeakers", name := "thereNow", desc := "()I" } : Jvm.MethodName)) ∈ lw_all := lw_g (lw_at lw_m4 128 rfl) rfl
theorem q947 : (Jvm.Cond.code ({ cls := "LastSpeakers", name := "thereNow", desc := "()I" } : Jvm.MethodName) prog_1_method_46_code (3 : Nat) (Option.some Jvm.ClassFile.FieldType.int)) ∈ lw_all := lw_g (lw_at lw_m4 129 rfl) rfl
theorem q949 : (Jvm.Cond.instanceMethod ({ cls := "LastSpeakers", name := "next", desc := "(I)I" } : Jvm.MethodName)) ∈ lw_all := lw_g (lw_at lw_m4 131 rfl) rfl
theorem q950 : (Jvm.Cond.selects "LastSpeakers" ({ cls := "LastSpeakers", name := "next", desc := "(I)I" } : Jvm.MethodName) ({ cls := "LastSpeakers", name := "next", desc := "(I)I" } : Jvm.MethodName)) ∈ lw_all := lw_g (lw_at lw_m4 132 rfl) rfl
theorem q951 : (Jvm.Cond.code ({ cls := "LastSpeakers", name := "next", desc := "(I)I" } : Jvm.MethodName) prog_1_method_49_code (3 : Nat) (Option.some Jvm.ClassFile.FieldType.int)) ∈ lw_all := lw_g (lw_at lw_m4 133 rfl) rfl
theorem q953 : (Jvm.Cond.instanceMethod ({ cls := "LastSpeakers", name := "plan", desc := "(II)I" } : Jvm.MethodName)) ∈ lw_all := lw_g (lw_at lw_m4 135 rfl) rfl
theorem q954 : (Jvm.Cond.selects "LastSpeakers" ({ cls := "LastSpeakers", name := "plan", desc := "(II)I" } : Jvm.MethodName) ({ cls := "LastSpeakers", name := "plan", desc := "(II)I" } : Jvm.MethodName)) ∈ lw_all := lw_g (lw_at lw_m4 136 rfl) rfl
theorem q955 : (Jvm.Cond.code ({ cls := "LastSpeakers", name := "plan", desc := "(II)I" } : Jvm.MethodName) prog_1_method_50_code (3 : Nat) (Option.some Jvm.ClassFile.FieldType.int)) ∈ lw_all := lw_g (lw_at lw_m4 137 rfl) rfl
theorem q957 : (Jvm.Cond.instanceMethod ({ cls := "LastSpeakers", name := "clear", desc := "()I" } : Jvm.MethodName)) ∈ lw_all := lw_g (lw_at lw_m4 139 rfl) rfl
theorem q958 : (Jvm.Cond.selects "LastSpeakers" ({ cls := "LastSpeakers", name := "clear", desc := "()I" } : Jvm.MethodName) ({ cls := "LastSpeakers", name := "clear", desc := "()I" } : Jvm.MethodName)) ∈ lw_all := lw_g (lw_at lw_m4 140 rfl) rfl
theorem q959 : (Jvm.Cond.code ({ cls := "LastSpeakers", name := "clear", desc := "()I" } : Jvm.MethodName) prog_1_method_51_code (2 : Nat) (Option.some Jvm.ClassFile.FieldType.int)) ∈ lw_all := lw_g (lw_at lw_m4 141 rfl) rfl
theorem q961 : (Jvm.Cond.instanceMethod ({ cls := "LastSpeakers", name := "judge", desc := "(I)I" } : Jvm.MethodName)) ∈ lw_all := lw_g (lw_at lw_m4 143 rfl) rfl
theorem q962 : (Jvm.Cond.selects "LastSpeakers" ({ cls := "LastSpeakers", name := "judge", desc := "(I)I" } : Jvm.MethodName) ({ cls := "LastSpeakers", name := "judge", desc := "(I)I" } : Jvm.MethodName)) ∈ lw_all := lw_g (lw_at lw_m4 144 rfl) rfl
theorem q963 : (Jvm.Cond.code ({ cls := "LastSpeakers", name := "judge", desc := "(I)I" } : Jvm.MethodName) prog_1_method_55_code (2 : Nat) (Option.some Jvm.ClassFile.FieldType.int)) ∈ lw_all := lw_g (lw_at lw_m4 145 rfl) rfl
theorem q964 : (Jvm.Cond.methodLink "LastSpeakers" (323 : Nat) ({ cls := "LastSpeakers", name := "meanOfRow", desc := "()I" } : Jvm.MethodName)) ∈ lw_all := lw_g (lw_at lw_m4 146 rfl) rfl
theorem q965 : (Jvm.Cond.privateMethod ({ cls := "LastSpeakers", name := "meanOfRow", desc := "()I" } : Jvm.MethodName)) ∈ lw_tbl := lw_at lw_m4 147 rfl
theorem q966 : (Jvm.Cond.instanceMethod ({ cls := "LastSpeakers", name := "meanOfRow", desc := "()I" } : Jvm.MethodName)) ∈ lw_all := lw_g (lw_at lw_m4 148 rfl) rfl
theorem q967 : (Jvm.Cond.code ({ cls := "LastSpeakers", name := "meanOfRow", desc := "()I" } : Jvm.MethodName) prog_1_method_53_code (10 : Nat) (Option.some Jvm.ClassFile.FieldType.int)) ∈ lw_all := lw_g (lw_at lw_m4 149 rfl) rfl
theorem q968 : (Jvm.Cond.methodLink "LastSpeakers" (318 : Nat) ({ cls := "LastSpeakers", name := "canTell", desc := "(I)Z" } : Jvm.MethodName)) ∈ lw_all := lw_g (lw_at lw_m4 150 rfl) rfl
theorem q969 : (Jvm.Cond.privateMethod ({ cls := "LastSpeakers", name := "canTell", desc := "(I)Z" } : Jvm.MethodName)) ∈ lw_tbl := lw_at lw_m4 151 rfl
theorem q970 : (Jvm.Cond.instanceMethod ({ cls := "LastSpeakers", name := "canTell", desc := "(I)Z" } : Jvm.MethodName)) ∈ lw_all := lw_g (lw_at lw_m4 152 rfl) rfl
theorem q971 : (Jvm.Cond.code ({ cls := "LastSpeakers", name := "canTell", desc := "(I)Z" } : Jvm.MethodName) prog_1_method_52_code (3 : Nat) (Option.some Jvm.ClassFile.FieldType.boolean)) ∈ lw_all := lw_g (lw_at lw_m4 153 rfl) rfl
theorem q972 : (Jvm.Cond.constantLong "LastSpeakers" (321 : Nat) (1000 : Int64)) ∈ lw_all := lw_g (lw_at lw_m4 154 rfl) rfl
theorem q973 : (Jvm.Cond.methodLink "LastSpeakers" (326 : Nat) ({ cls := "LastSpeakers", name := "barred", desc := "()I" } : Jvm.MethodName)) ∈ lw_all := lw_g (lw_at lw_m4 155 rfl) rfl
theorem q974 : (Jvm.Cond.privateMethod ({ cls := "LastSpeakers", name := "barred", desc := "()I" } : Jvm.MethodName)) ∈ lw_tbl := lw_at lw_m4 156 rfl
theorem q975 : (Jvm.Cond.instanceMethod ({ cls := "LastSpeakers", name := "barred", desc := "()I" } : Jvm.MethodName)) ∈ lw_all := lw_g (lw_at lw_m4 157 rfl) rfl
theorem q976 : (Jvm.Cond.code ({ cls := "LastSpeakers", name := "barred", desc := "()I" } : Jvm.MethodName) prog_1_method_54_code (4 : Nat) (Option.some Jvm.ClassFile.FieldType.int)) ∈ lw_all := lw_g (lw_at lw_m4 158 rfl) rfl
theorem q978 : (Jvm.Cond.instanceMethod ({ cls := "LastSpeakers", name := "hear", desc := "(IIII)I" } : Jvm.MethodName)) ∈ lw_all := lw_g (lw_at lw_m4 160 rfl) rfl
theorem q979 : (Jvm.Cond.selects "LastSpeakers" ({ cls := "LastSpeakers", name := "hear", desc := "(IIII)I" } : Jvm.MethodName) ({ cls := "LastSpeakers", name := "hear", desc := "(IIII)I" } : Jvm.MethodName)) ∈ lw_all := lw_g (lw_at lw_m4 161 rfl) rfl
theorem q980 : (Jvm.Cond.code ({ cls := "LastSpeakers", name := "hear", desc := "(IIII)I" } : Jvm.MethodName) prog_1_method_57_code (6 : Nat) (Option.some Jvm.ClassFile.FieldType.int)) ∈ lw_all := lw_g (lw_at lw_m4 162 rfl) rfl
theorem q981 : (Jvm.Cond.methodLink "LastSpeakers" (331 : Nat) ({ cls := "LastSpeakers", name := "isVersion", desc := "(I)Z" } : Jvm.MethodName)) ∈ lw_all := lw_g (lw_at lw_m4 163 rfl) rfl
theorem q982 : (Jvm.Cond.static ({ cls := "LastSpeakers", name := "isVersion", desc := "(I)Z" } : Jvm.MethodName)) ∈ lw_all := lw_g (lw_at lw_m4 164 rfl) rfl
theorem q983 : (Jvm.Cond.code ({ cls := "LastSpeakers", name := "isVersion", desc := "(I)Z" } : Jvm.MethodName) prog_1_method_56_code (1 : Nat) (Option.some Jvm.ClassFile.FieldType.boolean)) ∈ lw_all := lw_g (lw_at lw_m4 165 rfl) rfl
theorem q984 : (Jvm.Cond.constantLong "LastSpeakers" (329 : Nat) (3 : Int64)) ∈ lw_all := lw_g (lw_at lw_m4 166 rfl) rfl
theorem q986 : (Jvm.Cond.instanceMethod ({ cls := "LastSpeakers", name := "unhear", desc := "()I" } : Jvm.MethodName)) ∈ lw_all := lw_g (lw_at lw_m4 168 rfl) rfl
theorem q987 : (Jvm.Cond.selects "LastSpeakers" ({ cls := "LastSpeakers", name := "unhear", desc := "()I" } : Jvm.MethodName) ({ cls := "LastSpeakers", name := "unhear", desc := "()I" } : Jvm.MethodName)) ∈ lw_all := lw_g (lw_at lw_m4 169 rfl) rfl
theorem q988 : (Jvm.Cond.code ({ cls := "LastSpeakers", name := "unhear", desc := "()I" } : Jvm.MethodName) prog_1_method_58_code (1 : Nat) (Option.some Jvm.ClassFile.FieldType.int)) ∈ lw_all := lw_g (lw_at lw_m4 170 rfl) rfl
theorem q990 : (Jvm.Cond.instanceMethod ({ cls := "LastSpeakers", name := "book", desc := "(IIIZ)Z" } : Jvm.MethodName)) ∈ lw_all := lw_g (lw_at lw_m4 172 rfl) rfl
theorem q991 : (Jvm.Cond.selects "LastSpeakers" ({ cls := "LastSpeakers", name := "book", desc := "(IIIZ)Z" } : Jvm.MethodName) ({ cls := "LastSpeakers", name := "book", desc := "(IIIZ)Z" } : Jvm.MethodName)) ∈ lw_all := lw_g (lw_at lw_m4 173 rfl) rfl
theorem q992 : (Jvm.Cond.code ({ cls := "LastSpeakers", name := "book", desc := "(IIIZ)Z" } : Jvm.MethodName) prog_1_method_59_code (5 : Nat) (Option.some Jvm.ClassFile.FieldType.boolean)) ∈ lw_all := lw_g (lw_at lw_m4 174 rfl) rfl
theorem q994 : (Jvm.Cond.instanceMethod ({ cls := "LastSpeakers", name := "version", desc := "(II)I" } : Jvm.MethodName)) ∈ lw_all := lw_g (lw_at lw_m4 176 rfl) rfl
theorem q995 : (Jvm.Cond.selects "LastSpeakers" ({ cls := "LastSpeakers", name := "version", desc := "(II)I" } : Jvm.MethodName) ({ cls := "LastSpeakers", name := "version", desc := "(II)I" } : Jvm.MethodName)) ∈ lw_all := lw_g (lw_at lw_m4 177 rfl) rfl
theorem q996 : (Jvm.Cond.code ({ cls := "LastSpeakers", name := "version", desc := "(II)I" } : Jvm.MethodName) prog_1_method_64_code (3 : Nat) (Option.some Jvm.ClassFile.FieldType.int)) ∈ lw_all := lw_g (lw_at lw_m4 178 rfl) rfl
theorem q997 : (Jvm.Cond.methodLink "LastSpeakers" (348 : Nat) ({ cls := "LastSpeakers", name := "sure", desc := "(I)I" } : Jvm.MethodName)) ∈ lw_all := lw_g (lw_at lw_m4 179 rfl) rfl
theorem q998 : (Jvm.Cond.privateMethod ({ cls := "LastSpeakers", name := "sure", desc := "(I)I" } : Jvm.MethodName)) ∈ lw_tbl := lw_at lw_m4 180 rfl
theorem q999 : (Jvm.Cond.instanceMethod ({ cls := "LastSpeakers", name := "sure", desc := "(I)I" } : Jvm.MethodName)) ∈ lw_all := lw_g (lw_at lw_m4 181 rfl) rfl
theorem q1000 : (Jvm.Cond.code ({ cls := "LastSpeakers", name := "sure", desc := "(I)I" } : Jvm.MethodName) prog_1_method_62_code (5 : Nat) (Option.some Jvm.ClassFile.FieldType.int)) ∈ lw_all := lw_g (lw_at lw_m4 182 rfl) rfl
theorem q1001 : (Jvm.Cond.methodLink "LastSpeakers" (345 : Nat) ({ cls := "LastSpeakers", name := "weight", desc := "(II)I" } : Jvm.MethodName)) ∈ lw_all := lw_g (lw_at lw_m4 183 rfl) rfl
theorem q1002 : (Jvm.Cond.privateMethod ({ cls := "LastSpeakers", name := "weight", desc := "(II)I" } : Jvm.MethodName)) ∈ lw_tbl := lw_at lw_m4 184 rfl
theorem q1003 : (Jvm.Cond.instanceMethod ({ cls := "LastSpeakers", name := "weight", desc := "(II)I" } : Jvm.MethodName)) ∈ lw_all := lw_g (lw_at lw_m4 185 rfl) rfl
theorem q1004 : (Jvm.Cond.code ({ cls := "LastSpeakers", name := "weight", desc := "(II)I" } : Jvm.MethodName) prog_1_method_61_code (5 : Nat) (Option.some Jvm.ClassFile.FieldType.int)) ∈ lw_all := lw_g (lw_at lw_m4 186 rfl) rfl
theorem q1005 : (Jvm.Cond.methodLink "LastSpeakers" (342 : Nat) ({ cls := "LastSpeakers", name := "weightBy", desc := "(III)I" } : Jvm.MethodName)) ∈ lw_all := lw_g (lw_at lw_m4 187 rfl) rfl
theorem q1006 : (Jvm.Cond.privateMethod ({ cls := "LastSpeakers", name := "weightBy", desc := "(III)I" } : Jvm.MethodName)) ∈ lw_tbl := lw_at lw_m4 188 rfl
theorem q1007 : (Jvm.Cond.instanceMethod ({ cls := "LastSpeakers", name := "weightBy", desc := "(III)I" } : Jvm.MethodName)) ∈ lw_all := lw_g (lw_at lw_m4 189 rfl) rfl
theorem q1008 : (Jvm.Cond.code ({ cls := "LastSpeakers", name := "weightBy", desc := "(III)I" } : Jvm.MethodName) prog_1_method_60_code (8 : Nat) (Option.some Jvm.ClassFile.FieldType.int)) ∈ lw_all := lw_g (lw_at lw_m4 190 rfl) rfl
theorem q1009 : (Jvm.Cond.methodLink "LastSpeakers" (351 : Nat) ({ cls := "LastSpeakers", name := "fill", desc := "(I)I" } : Jvm.MethodName)) ∈ lw_all := lw_g (lw_at lw_m4 191 rfl) rfl
theorem q1010 : (Jvm.Cond.privateMethod ({ cls := "LastSpeakers", name := "fill", desc := "(I)I" } : Jvm.MethodName)) ∈ lw_tbl := lw_at lw_m4 192 rfl
theorem q1011 : (Jvm.Cond.instanceMethod ({ cls := "LastSpeakers", name := "fill", desc := "(I)I" } : Jvm.MethodName)) ∈ lw_all := lw_g (lw_at lw_m4 193 rfl) rfl
theorem q1012 : (Jvm.Cond.code ({ cls := "LastSpeakers", name := "fill", desc := "(I)I" } : Jvm.MethodName) prog_1_method_63_code (7 : Nat) (Option.some Jvm.ClassFile.FieldType.int)) ∈ lw_all := lw_g (lw_at lw_m4 194 rfl) rfl
theorem q1013 : (Jvm.Cond.constantLong "LastSpeakers" (354 : Nat) (10 : Int64)) ∈ lw_all := lw_g (lw_at lw_m4 195 rfl) rfl
theorem q1014 : (Jvm.Cond.constantLong "LastSpeakers" (356 : Nat) (13 : Int64)) ∈ lw_all := lw_g (lw_at lw_m4 196 rfl) rfl
theorem q1016 : (Jvm.Cond.instanceMethod ({ cls := "LastSpeakers", name := "again", desc := "(I)I" } : Jvm.MethodName)) ∈ lw_all := lw_g (lw_at lw_m4 198 rfl) rfl
theorem q1017 : (Jvm.Cond.selects "LastSpeakers" ({ cls := "LastSpeakers", name := "again", desc := "(I)I" } : Jvm.MethodName) ({ cls := "LastSpeakers", name := "again", desc := "(I)I" } : Jvm.MethodName)) ∈ lw_all := lw_g (lw_at lw_m4 199 rfl) rfl
theorem q1018 : (Jvm.Cond.code ({ cls := "LastSpeakers", name := "again", desc := "(I)I" } : Jvm.MethodName) prog_1_method_66_code (6 : Nat) (Option.some Jvm.ClassFile.FieldType.int)) ∈ lw_all := lw_g (lw_at lw_m4 200 rfl) rfl
theorem q1019 : (Jvm.Cond.methodLink "LastSpeakers" (358 : Nat) ({ cls := "LastSpeakers", name := "heardOf", desc := "(II)I" } : Jvm.MethodName)) ∈ lw_all := lw_g (lw_at lw_m4 201 rfl) rfl
theorem q1020 : (Jvm.Cond.privateMethod ({ cls := "LastSpeakers", name := "heardOf", desc := "(II)I" } : Jvm.MethodName)) ∈ lw_tbl := lw_at lw_m4 202 rfl
theorem q1021 : (Jvm.Cond.instanceMethod ({ cls := "LastSpeakers", name := "heardOf", desc := "(II)I" } : Jvm.MethodName)) ∈ lw_all := lw_g (lw_at lw_m4 203 rfl) rfl
theorem q1022 : (Jvm.Cond.code ({ cls := "LastSpeakers", name := "heardOf", desc := "(II)I" } : Jvm.MethodName) prog_1_method_65_code (5 : Nat) (Option.some Jvm.ClassFile.FieldType.int)) ∈ lw_all := lw_g (lw_at lw_m4 204 rfl) rfl
theorem q1024 : (Jvm.Cond.instanceMethod ({ cls := "LastSpeakers", name := "pleasing", desc := "(I)I" } : Jvm.MethodName)) ∈ lw_all := lw_g (lw_at lw_m4 206 rfl) rfl
theorem q1025 : (Jvm.Cond.selects "LastSpeakers" ({ cls := "LastSpeakers", name := "pleasing", desc := "(I)I" } : Jvm.MethodName) ({ cls := "LastSpeakers", name := "pleasing", desc := "(I)I" } : Jvm.MethodName)) ∈ lw_all := lw_g (lw_at lw_m4 207 rfl) rfl
theorem q1026 : (Jvm.Cond.code ({ cls := "LastSpeakers", name := "pleasing", desc := "(I)I" } : Jvm.MethodName) prog_1_method_67_code (6 : Nat) (Option.some Jvm.ClassFile.FieldType.int)) ∈ lw_all := lw_g (lw_at lw_m4 208 rfl) rfl
theorem q1028 : (Jvm.Cond.instanceMethod ({ cls := "LastSpeakers", name := "right", desc := "(Z)I" } : Jvm.MethodName)) ∈ lw_all := lw_g (lw_at lw_m4 210 rfl) rfl
theorem q1029 : (Jvm.Cond.selects "LastSpeakers" ({ cls := "LastSpeakers", name := "right", desc := "(Z)I" } : Jvm.MethodName) ({ cls := "LastSpeakers", name := "right", desc := "(Z)I" } : Jvm.MethodName)) ∈ lw_all := lw_g (lw_at lw_m4 211 rfl) rfl
theorem q1030 : (Jvm.Cond.code ({ cls := "LastSpeakers", name := "right", desc := "(Z)I" } : Jvm.MethodName) prog_1_method_68_code (6 : Nat) (Option.some Jvm.ClassFile.FieldType.int)) ∈ lw_all := lw_g (lw_at lw_m4 212 rfl) rfl
theorem q1032 : (Jvm.Cond.instanceMethod ({ cls := "LastSpeakers", name := "image", desc := "(I)Z" } : Jvm.MethodName)) ∈ lw_all := lw_g (lw_at lw_m4 214 rfl) rfl
theorem q1033 : (Jvm.Cond.selects "LastSpeakers" ({ cls := "LastSpeakers", name := "image", desc := "(I)Z" } : Jvm.MethodName) ({ cls := "LastSpeakers", name := "image", desc := "(I)Z" } : Jvm.MethodName)) ∈ lw_all := lw_g (lw_at lw_m4 215 rfl) rfl
theorem q1034 : (Jvm.Cond.code ({ cls := "LastSpeakers", name := "image", desc := "(I)Z" } : Jvm.MethodName) prog_1_method_69_code (4 : Nat) (Option.some Jvm.ClassFile.FieldType.boolean)) ∈ lw_all := lw_g (lw_at lw_m4 216 rfl) rfl
theorem q1035 : (Jvm.Cond.methodLink "LastSpeakers" (372 : Nat) ({ cls := "LastSpeakers$Entry", name := "become", desc := "(LLastSpeakers$Entry;)V" } : Jvm.MethodName)) ∈ lw_all := lw_g (lw_at lw_m4 217 rfl) rfl
theorem q1039 : (Jvm.Cond.methodLink "LastSpeakers" (377 : Nat) ({ cls := "LastSpeakers$Hearing", name := "become", desc := "(LLastSpeakers$Hearing;)V" } : Jvm.MethodName)) ∈ lw_all := lw_g (lw_at lw_m4 221 rfl) rfl
theorem q1044 : (Jvm.Cond.instanceMethod ({ cls := "LastSpeakers", name := "on", desc := "(I)Z" } : Jvm.MethodName)) ∈ lw_all := lw_g (lw_at lw_m4 226 rfl) rfl
theorem q1045 : (Jvm.Cond.selects "LastSpeakers" ({ cls := "LastSpeakers", name := "on", desc := "(I)Z" } : Jvm.MethodName) ({ cls := "LastSpeakers", name := "on", desc := "(I)Z" } : Jvm.MethodName)) ∈ lw_all := lw_g (lw_at lw_m4 227 rfl) rfl
theorem q1046 : (Jvm.Cond.code ({ cls := "LastSpeakers", name := "on", desc := "(I)Z" } : Jvm.MethodName) prog_1_method_70_code (4 : Nat) (Option.some Jvm.ClassFile.FieldType.boolean)) ∈ lw_all := lw_g (lw_at lw_m4 228 rfl) rfl
theorem q1048 : (Jvm.Cond.instanceMethod ({ cls := "LastSpeakers", name := "count", desc := "(I)I" } : Jvm.MethodName)) ∈ lw_all := lw_g (lw_at lw_m4 230 rfl) rfl
theorem q1049 : (Jvm.Cond.selects "LastSpeakers" ({ cls := "LastSpeakers", name := "count", desc := "(I)I" } : Jvm.MethodName) ({ cls := "LastSpeakers", name := "count", desc := "(I)I" } : Jvm.MethodName)) ∈ lw_all := lw_g (lw_at lw_m4 231 rfl) rfl
theorem q1050 : (Jvm.Cond.code ({ cls := "LastSpeakers", name := "count", desc := "(I)I" } : Jvm.MethodName) prog_1_method_71_code (3 : Nat) (Option.some Jvm.ClassFile.FieldType.int)) ∈ lw_all := lw_g (lw_at lw_m4 232 rfl) rfl
theorem q1596 : (Jvm.Cond.castable "LastSpeakers" "java/lang/Object") ∈ lw_tbl := lw_at lw_m7 58 rfl
theorem q100 : (Jvm.Cond.initialized "LastSpeakers$Entry") ∈ lw_all := lw_g (lw_at lw_m1 2 rfl) rfl
theorem q435 : (Jvm.Cond.selects "LastSpeakers$Entry" ({ cls := "java/lang/Object", name := "getClass", desc := "()Ljava/lang/Class;" } : Jvm.MethodName) ({ cls := "java/lang/Object", name := "getClass", desc := "()Ljava/lang/Class;" } : Jvm.MethodName)) ∈ lw_all := lw_g (lw_at lw_m2 97 rfl) rfl
theorem q565 : (Jvm.Cond.instantiable "LastSpeakers$Entry" (4 : Nat)) ∈ lw_all := lw_g (lw_at lw_m2 227 rfl) rfl
theorem q567 : (Jvm.Cond.instanceMethod ({ cls := "LastSpeakers$Entry", name := "<init>", desc := "()V" } : Jvm.MethodName)) ∈ lw_all := lw_g (lw_at lw_m2 229 rfl) rfl
theorem q568 : (Jvm.Cond.code ({ cls := "LastSpeakers$Entry", name := "<init>", desc := "()V" } : Jvm.MethodName) prog_2_method_1_code (1 : Nat) (Option.none : Option Jvm.ClassFile.FieldType)) ∈ lw_all := lw_g (lw_at lw_m2 230 rfl) rfl
theorem q569 : (Jvm.Cond.methodLink "LastSpeakers$Entry" (1 : Nat) ({ cls := "java/lang/Object", name := "<init>", desc := "()V" } : Jvm.MethodName)) ∈ lw_all := lw_g (lw_at lw_m2 231 rfl) rfl
theorem q570 : (Jvm.Cond.fieldLink "LastSpeakers$Entry" (7 : Nat) "LastSpeakers$Entry" "person" "I") ∈ lw_all := lw_g (lw_at lw_m2 232 rfl) rfl
theorem q572 : (Jvm.Cond.fieldLink "LastSpeakers$Entry" (13 : Nat) "LastSpeakers$Entry" "thing" "I") ∈ lw_all := lw_g (lw_at lw_m2 234 rfl) rfl
theorem q574 : (Jvm.Cond.fieldLink "LastSpeakers$Entry" (16 : Nat) "LastSpeakers$Entry" "hour" "I") ∈ lw_all := lw_g (lw_at lw_m2 236 rfl) rfl
theorem q576 : (Jvm.Cond.fieldLink "LastSpeakers$Entry" (19 : Nat) "LastSpeakers$Entry" "brought" "I") ∈ lw_all := lw_g (lw_at lw_m2 238 rfl) rfl
theorem q578 : (Jvm.Cond.lays "LastSpeakers$Entry" "LastSpeakers$Entry" "person" "I") ∈ lw_all := lw_g (lw_at lw_m3 0 rfl) rfl
theorem q579 : (Jvm.Cond.soleField "LastSpeakers$Entry" "person") ∈ lw_all := lw_g (lw_at lw_m3 1 rfl) rfl
theorem q580 : (Jvm.Cond.lays "LastSpeakers$Entry" "LastSpeakers$Entry" "thing" "I") ∈ lw_all := lw_g (lw_at lw_m3 2 rfl) rfl
theorem q581 : (Jvm.Cond.soleField "LastSpeakers$Entry" "thing") ∈ lw_all := lw_g (lw_at lw_m3 3 rfl) rfl
theorem q582 : (Jvm.Cond.lays "LastSpeakers$Entry" "LastSpeakers$Entry" "hour" "I") ∈ lw_all := lw_g (lw_at lw_m3 4 rfl) rfl
theorem q583 : (Jvm.Cond.soleField "LastSpeakers$Entry" "hour") ∈ lw_all := lw_g (lw_at lw_m3 5 rfl) rfl
theorem q584 : (Jvm.Cond.lays "LastSpeakers$Entry" "LastSpeakers$Entry" "brought" "I") ∈ lw_all := lw_g (lw_at lw_m3 6 rfl) rfl
theorem q585 : (Jvm.Cond.soleField "LastSpeakers$Entry" "brought") ∈ lw_all := lw_g (lw_at lw_m3 7 rfl) rfl
theorem q586 : (Jvm.Cond.superclass "LastSpeakers$Entry" "java/lang/Object") ∈ lw_all := lw_g (lw_at lw_m3 8 rfl) rfl
theorem q1036 : (Jvm.Cond.instanceMethod ({ cls := "LastSpeakers$Entry", name := "become", desc := "(LLastSpeakers$Entry;)V" } : Jvm.MethodName)) ∈ lw_all := lw_g (lw_at lw_m4 218 rfl) rfl
theorem q1037 : (Jvm.Cond.selects "LastSpeakers$Entry" ({ cls := "LastSpeakers$Entry", name := "become", desc := "(LLastSpeakers$Entry;)V" } : Jvm.MethodName) ({ cls := "LastSpeakers$Entry", name := "become", desc := "(LLastSpeakers$Entry;)V" } : Jvm.MethodName)) ∈ lw_all := lw_g (lw_at lw_m4 219 rfl) rfl
theorem q1038 : (Jvm.Cond.code ({ cls := "LastSpeakers$Entry", name := "become", desc := "(LLastSpeakers$Entry;)V" } : Jvm.MethodName) prog_2_method_2_code (2 : Nat) (Option.none : Option Jvm.ClassFile.FieldType)) ∈ lw_all := lw_g (lw_at lw_m4 220 rfl) rfl
theorem q1593 : (Jvm.Cond.castable "LastSpeakers$Entry" "java/lang/Object") ∈ lw_tbl := lw_at lw_m7 55 rfl
theorem q101 : (Jvm.Cond.initialized "LastSpeakers$Hearing") ∈ lw_all := lw_g (lw_at lw_m1 3 rfl) rfl
theorem q437 : (Jvm.Cond.selects "LastSpeakers$Hearing" ({ cls := "java/lang/Object", name := "getClass", desc := "()Ljava/lang/Class;" } : Jvm.MethodName) ({ cls := "java/lang/Object", name := "getClass", desc := "()Ljava/lang/Class;" } : Jvm.MethodName)) ∈ lw_all := lw_g (lw_at lw_m2 99 rfl) rfl
theorem q588 : (Jvm.Cond.instantiable "LastSpeakers$Hearing" (4 : Nat)) ∈ lw_all := lw_g (lw_at lw_m3 10 rfl) rfl
theorem q590 : (Jvm.Cond.instanceMethod ({ cls := "LastSpeakers$Hearing", name := "<init>", desc := "()V" } : Jvm.MethodName)) ∈ lw_all := lw_g (lw_at lw_m3 12 rfl) rfl
theorem q591 : (Jvm.Cond.code ({ cls := "LastSpeakers$Hearing", name := "<init>", desc := "()V" } : Jvm.MethodName) prog_4_method_1_code (1 : Nat) (Option.none : Option Jvm.ClassFile.FieldType)) ∈ lw_all := lw_g (lw_at lw_m3 13 rfl) rfl
theorem q592 : (Jvm.Cond.methodLink "LastSpeakers$Hearing" (1 : Nat) ({ cls := "java/lang/Object", name := "<init>", desc := "()V" } : Jvm.MethodName)) ∈ lw_all := lw_g (lw_at lw_m3 14 rfl) rfl
theorem q593 : (Jvm.Cond.fieldLink "LastSpeakers$Hearing" (7 : Nat) "LastSpeakers$Hearing" "thing" "I") ∈ lw_all := lw_g (lw_at lw_m3 15 rfl) rfl
theorem q595 : (Jvm.Cond.fieldLink "LastSpeakers$Hearing" (13 : Nat) "LastSpeakers$Hearing" "person" "I") ∈ lw_all := lw_g (lw_at lw_m3 17 rfl) rfl
theorem q597 : (Jvm.Cond.fieldLink "LastSpeakers$Hearing" (16 : Nat) "LastSpeakers$Hearing" "version" "I") ∈ lw_all := lw_g (lw_at lw_m3 19 rfl) rfl
theorem q599 : (Jvm.Cond.fieldLink "LastSpeakers$Hearing" (19 : Nat) "LastSpeakers$Hearing" "hint" "I") ∈ lw_all := lw_g (lw_at lw_m3 21 rfl) rfl
theorem q601 : (Jvm.Cond.lays "LastSpeakers$Hearing" "LastSpeakers$Hearing" "thing" "I") ∈ lw_all := lw_g (lw_at lw_m3 23 rfl) rfl
theorem q602 : (Jvm.Cond.soleField "LastSpeakers$Hearing" "thing") ∈ lw_all := lw_g (lw_at lw_m3 24 rfl) rfl
theorem q603 : (Jvm.Cond.lays "LastSpeakers$Hearing" "LastSpeakers$Hearing" "person" "I") ∈ lw_all := lw_g (lw_at lw_m3 25 rfl) rfl
theorem q604 : (Jvm.Cond.soleField "LastSpeakers$Hearing" "person") ∈ lw_all := lw_g (lw_at lw_m3 26 rfl) rfl
theorem q605 : (Jvm.Cond.lays "LastSpeakers$Hearing" "LastSpeakers$Hearing" "version" "I") ∈ lw_all := lw_g (lw_at lw_m3 27 rfl) rfl
theorem q606 : (Jvm.Cond.soleField "LastSpeakers$Hearing" "version") ∈ lw_all := lw_g (lw_at lw_m3 28 rfl) rfl
theorem q607 : (Jvm.Cond.lays "LastSpeakers$Hearing" "LastSpeakers$Hearing" "hint" "I") ∈ lw_all := lw_g (lw_at lw_m3 29 rfl) rfl
theorem q608 : (Jvm.Cond.soleField "LastSpeakers$Hearing" "hint") ∈ lw_all := lw_g (lw_at lw_m3 30 rfl) rfl
theorem q609 : (Jvm.Cond.superclass "LastSpeakers$Hearing" "java/lang/Object") ∈ lw_all := lw_g (lw_at lw_m3 31 rfl) rfl
theorem q1040 : (Jvm.Cond.instanceMethod ({ cls := "LastSpeakers$Hearing", name := "become", desc := "(LLastSpeakers$Hearing;)V" } : Jvm.MethodName)) ∈ lw_all := lw_g (lw_at lw_m4 222 rfl) rfl
theorem q1041 : (Jvm.Cond.selects "LastSpeakers$Hearing" ({ cls := "LastSpeakers$Hearing", name := "become", desc := "(LLastSpeakers$Hearing;)V" } : Jvm.MethodName) ({ cls := "LastSpeakers$Hearing", name := "become", desc := "(LLastSpeakers$Hearing;)V" } : Jvm.MethodName)) ∈ lw_all := lw_g (lw_at lw_m4 223 rfl) rfl
theorem q1042 : (Jvm.Cond.code ({ cls := "LastSpeakers$Hearing", name := "become", desc := "(LLastSpeakers$Hearing;)V" } : Jvm.MethodName) prog_4_method_2_code (2 : Nat) (Option.none : Option Jvm.ClassFile.FieldType)) ∈ lw_all := lw_g (lw_at lw_m4 224 rfl) rfl
theorem q1594 : (Jvm.Cond.castable "LastSpeakers$Hearing" "java/lang/Object") ∈ lw_tbl := lw_at lw_m7 56 rfl
theorem q102 : (Jvm.Cond.initialized "LastSpeakers$Image") ∈ lw_all := lw_g (lw_at lw_m1 4 rfl) rfl
theorem q438 : (Jvm.Cond.selects "LastSpeakers$Image" ({ cls := "java/lang/Object", name := "getClass", desc := "()Ljava/lang/Class;" } : Jvm.MethodName) ({ cls := "java/lang/Object", name := "getClass", desc := "()Ljava/lang/Class;" } : Jvm.MethodName)) ∈ lw_all := lw_g (lw_at lw_m2 100 rfl) rfl
theorem q610 : (Jvm.Cond.instantiable "LastSpeakers$Image" (11 : Nat)) ∈ lw_all := lw_g (lw_at lw_m3 32 rfl) rfl
theorem q612 : (Jvm.Cond.instanceMethod ({ cls := "LastSpeakers$Image", name := "<init>", desc := "()V" } : Jvm.MethodName)) ∈ lw_all := lw_g (lw_at lw_m3 34 rfl) rfl
theorem q613 : (Jvm.Cond.code ({ cls := "LastSpeakers$Image", name := "<init>", desc := "()V" } : Jvm.MethodName) prog_5_method_1_code (2 : Nat) (Option.none : Option Jvm.ClassFile.FieldType)) ∈ lw_all := lw_g (lw_at lw_m3 35 rfl) rfl
theorem q614 : (Jvm.Cond.methodLink "LastSpeakers$Image" (3 : Nat) ({ cls := "java/lang/Object", name := "<init>", desc := "()V" } : Jvm.MethodName)) ∈ lw_all := lw_g (lw_at lw_m3 36 rfl) rfl
theorem q615 : (Jvm.Cond.classLink "LastSpeakers$Image" (9 : Nat) "LastSpeakers$Entry") ∈ lw_all := lw_g (lw_at lw_m3 37 rfl) rfl
theorem q616 : (Jvm.Cond.classLink "LastSpeakers$Image" (17 : Nat) "LastSpeakers$Hearing") ∈ lw_all := lw_g (lw_at lw_m3 38 rfl) rfl
theorem q617 : (Jvm.Cond.methodLinkNest "LastSpeakers$Image" (31 : Nat) ({ cls := "LastSpeakers$Entry", name := "<init>", desc := "()V" } : Jvm.MethodName) "LastSpeakers") ∈ lw_tbl := lw_at lw_m3 39 rfl
theorem q618 : (Jvm.Cond.methodLinkNest "LastSpeakers$Image" (32 : Nat) ({ cls := "LastSpeakers$Hearing", name := "<init>", desc := "()V" } : Jvm.MethodName) "LastSpeakers") ∈ lw_tbl := lw_at lw_m3 40 rfl
theorem q619 : (Jvm.Cond.fieldLink "LastSpeakers$Image" (11 : Nat) "LastSpeakers$Image" "logs" "[LLastSpeakers$Entry;") ∈ lw_all := lw_g (lw_at lw_m3 41 rfl) rfl
theorem q621 : (Jvm.Cond.fieldLink "LastSpeakers$Image" (19 : Nat) "LastSpeakers$Image" "hearings" "[LLastSpeakers$Hearing;") ∈ lw_all := lw_g (lw_at lw_m3 43 rfl) rfl
theorem q623 : (Jvm.Cond.fieldLink "LastSpeakers$Image" (23 : Nat) "LastSpeakers$Image" "isThere" "[Z") ∈ lw_all := lw_g (lw_at lw_m3 45 rfl) rfl
theorem q625 : (Jvm.Cond.fieldLink "LastSpeakers$Image" (27 : Nat) "LastSpeakers$Image" "asked" "[I") ∈ lw_all := lw_g (lw_at lw_m3 47 rfl) rfl
theorem q634 : (Jvm.Cond.laysFinal "LastSpeakers$Image" "LastSpeakers$Image" "logs" "[LLastSpeakers$Entry;") ∈ lw_all := lw_g (lw_at lw_m3 56 rfl) rfl
theorem q635 : (Jvm.Cond.soleField "LastSpeakers$Image" "logs") ∈ lw_all := lw_g (lw_at lw_m3 57 rfl) rfl
theorem q636 : (Jvm.Cond.laysFinal "LastSpeakers$Image" "LastSpeakers$Image" "hearings" "[LLastSpeakers$Hearing;") ∈ lw_all := lw_g (lw_at lw_m3 58 rfl) rfl
theorem q637 : (Jvm.Cond.soleField "LastSpeakers$Image" "hearings") ∈ lw_all := lw_g (lw_at lw_m3 59 rfl) rfl
theorem q638 : (Jvm.Cond.laysFinal "LastSpeakers$Image" "LastSpeakers$Image" "isThere" "[Z") ∈ lw_all := lw_g (lw_at lw_m3 60 rfl) rfl
theorem q639 : (Jvm.Cond.soleField "LastSpeakers$Image" "isThere") ∈ lw_all := lw_g (lw_at lw_m3 61 rfl) rfl
theorem q640 : (Jvm.Cond.laysFinal "LastSpeakers$Image" "LastSpeakers$Image" "asked" "[I") ∈ lw_all := lw_g (lw_at lw_m3 62 rfl) rfl
theorem q641 : (Jvm.Cond.soleField "LastSpeakers$Image" "asked") ∈ lw_all := lw_g (lw_at lw_m3 63 rfl) rfl
theorem q642 : (Jvm.Cond.lays "LastSpeakers$Image" "LastSpeakers$Image" "is" "Z") ∈ lw_all := lw_g (lw_at lw_m3 64 rfl) rfl
theorem q643 : (Jvm.Cond.soleField "LastSpeakers$Image" "is") ∈ lw_all := lw_g (lw_at lw_m3 65 rfl) rfl
theorem q644 : (Jvm.Cond.lays "LastSpeakers$Image" "LastSpeakers$Image" "had" "I") ∈ lw_all := lw_g (lw_at lw_m3 66 rfl) rfl
theorem q645 : (Jvm.Cond.soleField "LastSpeakers$Image" "had") ∈ lw_all := lw_g (lw_at lw_m3 67 rfl) rfl
theorem q646 : (Jvm.Cond.lays "LastSpeakers$Image" "LastSpeakers$Image" "hour" "I") ∈ lw_all := lw_g (lw_at lw_m3 68 rfl) rfl
theorem q647 : (Jvm.Cond.soleField "LastSpeakers$Image" "hour") ∈ lw_all := lw_g (lw_at lw_m3 69 rfl) rfl
theorem q648 : (Jvm.Cond.lays "LastSpeakers$Image" "LastSpeakers$Image" "last" "I") ∈ lw_all := lw_g (lw_at lw_m3 70 rfl) rfl
theorem q649 : (Jvm.Cond.soleField "LastSpeakers$Image" "last") ∈ lw_all := lw_g (lw_at lw_m3 71 rfl) rfl
theorem q650 : (Jvm.Cond.lays "LastSpeakers$Image" "LastSpeakers$Image" "logMany" "I") ∈ lw_all := lw_g (lw_at lw_m3 72 rfl) rfl
theorem q651 : (Jvm.Cond.soleField "LastSpeakers$Image" "logMany") ∈ lw_all := lw_g (lw_at lw_m3 73 rfl) rfl
theorem q652 : (Jvm.Cond.lays "LastSpeakers$Image" "LastSpeakers$Image" "hearingMany" "I") ∈ lw_all := lw_g (lw_at lw_m3 74 rfl) rfl
theorem q653 : (Jvm.Cond.soleField "LastSpeakers$Image" "hearingMany") ∈ lw_all := lw_g (lw_at lw_m3 75 rfl) rfl
theorem q654 : (Jvm.Cond.lays "LastSpeakers$Image" "LastSpeakers$Image" "lots" "J") ∈ lw_all := lw_g (lw_at lw_m3 76 rfl) rfl
theorem q655 : (Jvm.Cond.soleField "LastSpeakers$Image" "lots") ∈ lw_all := lw_g (lw_at lw_m3 77 rfl) rfl
theorem q656 : (Jvm.Cond.superclass "LastSpeakers$Image" "java/lang/Object") ∈ lw_all := lw_g (lw_at lw_m3 78 rfl) rfl
theorem q1595 : (Jvm.Cond.castable "LastSpeakers$Image" "java/lang/Object") ∈ lw_tbl := lw_at lw_m7 57 rfl
theorem q103 : (Jvm.Cond.initialized "LastSpeakersModel") ∈ lw_all := lw_g (lw_at lw_m1 5 rfl) rfl
theorem q443 : (Jvm.Cond.selects "LastSpeakersModel" ({ cls := "java/lang/Object", name := "getClass", desc := "()Ljava/lang/Class;" } : Jvm.MethodName) ({ cls := "java/lang/Object", name := "getClass", desc := "()Ljava/lang/Class;" } : Jvm.MethodName)) ∈ lw_all := lw_g (lw_at lw_m2 105 rfl) rfl
theorem q1052 : (Jvm.Cond.instantiable "LastSpeakersModel" (63 : Nat)) ∈ lw_all := lw_g (lw_at lw_m4 234 rfl) rfl
theorem q1054 : (Jvm.Cond.instanceMethod ({ cls := "LastSpeakersModel", name := "<init>", desc := "()V" } : Jvm.MethodName)) ∈ lw_all := lw_g (lw_at lw_m4 236 rfl) rfl
theorem q1055 : (Jvm.Cond.code ({ cls := "LastSpeakersModel", name := "<init>", desc := "()V" } : Jvm.MethodName) prog_11_method_1_code (1 : Nat) (Option.none : Option Jvm.ClassFile.FieldType)) ∈ lw_all := lw_g (lw_at lw_m4 237 rfl) rfl
theorem q1056 : (Jvm.Cond.methodLink "LastSpeakersModel" (1 : Nat) ({ cls := "java/lang/Object", name := "<init>", desc := "()V" } : Jvm.MethodName)) ∈ lw_all := lw_g (lw_at lw_m4 238 rfl) rfl
theorem q1057 : (Jvm.Cond.constant "LastSpeakersModel" (121 : Nat) (204800 : Int32)) ∈ lw_all := lw_g (lw_at lw_m4 239 rfl) rfl
theorem q1058 : (Jvm.Cond.fieldLink "LastSpeakersModel" (9 : Nat) "LastSpeakersModel" "text" "[B") ∈ lw_all := lw_g (lw_at lw_m5 0 rfl) rfl
theorem q1059 : (Jvm.Cond.fieldLink "LastSpeakersModel" (131 : Nat) "LastSpeakersModel" "size" "I") ∈ lw_all := lw_g (lw_at lw_m5 1 rfl) rfl
theorem q1060 : (Jvm.Cond.fieldLink "LastSpeakersModel" (139 : Nat) "LastSpeakersModel" "at" "I") ∈ lw_all := lw_g (lw_at lw_m5 2 rfl) rfl
theorem q1061 : (Jvm.Cond.fieldLink "LastSpeakersModel" (149 : Nat) "LastSpeakersModel" "kind" "I") ∈ lw_all := lw_g (lw_at lw_m5 3 rfl) rfl
theorem q1062 : (Jvm.Cond.fieldLink "LastSpeakersModel" (142 : Nat) "LastSpeakersModel" "tokenAt" "I") ∈ lw_all := lw_g (lw_at lw_m5 4 rfl) rfl
theorem q1063 : (Jvm.Cond.fieldLink "LastSpeakersModel" (145 : Nat) "LastSpeakersModel" "value" "J") ∈ lw_all := lw_g (lw_at lw_m5 5 rfl) rfl
theorem q1064 : (Jvm.Cond.fieldLink "LastSpeakersModel" (194 : Nat) "LastSpeakersModel" "newThings" "I") ∈ lw_all := lw_g (lw_at lw_m5 6 rfl) rfl
theorem q1065 : (Jvm.Cond.fieldLink "LastSpeakersModel" (13 : Nat) "LastSpeakersModel" "newThingName" "[J") ∈ lw_all := lw_g (lw_at lw_m5 7 rfl) rfl
theorem q1066 : (Jvm.Cond.fieldLink "LastSpeakersModel" (17 : Nat) "LastSpeakersModel" "newThing" "[I") ∈ lw_all := lw_g (lw_at lw_m5 8 rfl) rfl
theorem q1067 : (Jvm.Cond.fieldLink "LastSpeakersModel" (201 : Nat) "LastSpeakersModel" "newPeople" "I") ∈ lw_all := lw_g (lw_at lw_m5 9 rfl) rfl
theorem q1068 : (Jvm.Cond.fieldLink "LastSpeakersModel" (21 : Nat) "LastSpeakersModel" "newPersonName" "[J") ∈ lw_all := lw_g (lw_at lw_m5 10 rfl) rfl
theorem q1069 : (Jvm.Cond.fieldLink "LastSpeakersModel" (24 : Nat) "LastSpeakersModel" "newPerson" "[I") ∈ lw_all := lw_g (lw_at lw_m5 11 rfl) rfl
theorem q1070 : (Jvm.Cond.fieldLink "LastSpeakersModel" (27 : Nat) "LastSpeakersModel" "newKnows" "[I") ∈ lw_all := lw_g (lw_at lw_m5 12 rfl) rfl
theorem q1071 : (Jvm.Cond.fieldLink "LastSpeakersModel" (30 : Nat) "LastSpeakersModel" "newLean" "[I") ∈ lw_all := lw_g (lw_at lw_m5 13 rfl) rfl
theorem q1072 : (Jvm.Cond.fieldLink "LastSpeakersModel" (33 : Nat) "LastSpeakersModel" "newNear" "[I") ∈ lw_all := lw_g (lw_at lw_m5 14 rfl) rfl
theorem q1073 : (Jvm.Cond.fieldLink "LastSpeakersModel" (244 : Nat) "LastSpeakersModel" "newLeans" "I") ∈ lw_all := lw_g (lw_at lw_m5 15 rfl) rfl
theorem q1074 : (Jvm.Cond.fieldLink "LastSpeakersModel" (251 : Nat) "LastSpeakersModel" "newNears" "I") ∈ lw_all := lw_g (lw_at lw_m5 16 rfl) rfl
theorem q1075 : (Jvm.Cond.fieldLink "LastSpeakersModel" (223 : Nat) "LastSpeakersModel" "newFollows" "I") ∈ lw_all := lw_g (lw_at lw_m5 17 rfl) rfl
theorem q1076 : (Jvm.Cond.fieldLink "LastSpeakersModel" (36 : Nat) "LastSpeakersModel" "newFollow" "[I") ∈ lw_all := lw_g (lw_at lw_m5 18 rfl) rfl
theorem q1077 : (Jvm.Cond.fieldLink "LastSpeakersModel" (226 : Nat) "LastSpeakersModel" "newMonth" "I") ∈ lw_all := lw_g (lw_at lw_m5 19 rfl) rfl
theorem q1078 : (Jvm.Cond.fieldLink "LastSpeakersModel" (260 : Nat) "LastSpeakersModel" "things" "I") ∈ lw_all := lw_g (lw_at lw_m5 20 rfl) rfl
theorem q1079 : (Jvm.Cond.fieldLink "LastSpeakersModel" (39 : Nat) "LastSpeakersModel" "thing2" "[I") ∈ lw_all := lw_g (lw_at lw_m5 21 rfl) rfl
theorem q1080 : (Jvm.Cond.fieldLink "LastSpeakersModel" (263 : Nat) "LastSpeakersModel" "people" "I") ∈ lw_all := lw_g (lw_at lw_m5 22 rfl) rfl
theorem q1081 : (Jvm.Cond.fieldLink "LastSpeakersModel" (42 : Nat) "LastSpeakersModel" "stays" "[I") ∈ lw_all := lw_g (lw_at lw_m5 23 rfl) rfl
theorem q1082 : (Jvm.Cond.fieldLink "LastSpeakersModel" (45 : Nat) "LastSpeakersModel" "knows2" "[I") ∈ lw_all := lw_g (lw_at lw_m5 24 rfl) rfl
theorem q1083 : (Jvm.Cond.fieldLink "LastSpeakersModel" (48 : Nat) "LastSpeakersModel" "lean" "[I") ∈ lw_all := lw_g (lw_at lw_m5 25 rfl) rfl
theorem q1084 : (Jvm.Cond.fieldLink "LastSpeakersModel" (51 : Nat) "LastSpeakersModel" "near" "[I") ∈ lw_all := lw_g (lw_at lw_m5 26 rfl) rfl
theorem q1085 : (Jvm.Cond.fieldLink "LastSpeakersModel" (266 : Nat) "LastSpeakersModel" "followMany" "I") ∈ lw_all := lw_g (lw_at lw_m5 27 rfl) rfl
theorem q1086 : (Jvm.Cond.fieldLink "LastSpeakersModel" (54 : Nat) "LastSpeakersModel" "follow" "[I") ∈ lw_all := lw_g (lw_at lw_m5 28 rfl) rfl
theorem q1087 : (Jvm.Cond.fieldLink "LastSpeakersModel" (269 : Nat) "LastSpeakersModel" "month" "I") ∈ lw_all := lw_g (lw_at lw_m5 29 rfl) rfl
theorem q1088 : (Jvm.Cond.fieldLink "LastSpeakersModel" (271 : Nat) "LastSpeakersModel" "had" "I") ∈ lw_all := lw_g (lw_at lw_m5 30 rfl) rfl
theorem q1089 : (Jvm.Cond.fieldLink "LastSpeakersModel" (274 : Nat) "LastSpeakersModel" "hour" "I") ∈ lw_all := lw_g (lw_at lw_m5 31 rfl) rfl
theorem q1090 : (Jvm.Cond.fieldLink "LastSpeakersModel" (277 : Nat) "LastSpeakersModel" "there" "I") ∈ lw_all := lw_g (lw_at lw_m5 32 rfl) rfl
theorem q1091 : (Jvm.Cond.fieldLink "LastSpeakersModel" (57 : Nat) "LastSpeakersModel" "asked" "[I") ∈ lw_all := lw_g (lw_at lw_m5 33 rfl) rfl
theorem q1092 : (Jvm.Cond.fieldLink "LastSpeakersModel" (280 : Nat) "LastSpeakersModel" "lastThing" "I") ∈ lw_all := lw_g (lw_at lw_m5 34 rfl) rfl
theorem q1093 : (Jvm.Cond.fieldLink "LastSpeakersModel" (283 : Nat) "LastSpeakersModel" "logs" "I") ∈ lw_all := lw_g (lw_at lw_m5 35 rfl) rfl
theorem q1094 : (Jvm.Cond.fieldLink "LastSpeakersModel" (60 : Nat) "LastSpeakersModel" "logRow" "[I") ∈ lw_all := lw_g (lw_at lw_m5 36 rfl) rfl
theorem q1095 : (Jvm.Cond.fieldLink "LastSpeakersModel" (286 : Nat) "LastSpeakersModel" "hearings" "I") ∈ lw_all := lw_g (lw_at lw_m5 37 rfl) rfl
theorem q1096 : (Jvm.Cond.fieldLink "LastSpeakersModel" (63 : Nat) "LastSpeakersModel" "hearing" "[I") ∈ lw_all := lw_g (lw_at lw_m5 38 rfl) rfl
theorem q1097 : (Jvm.Cond.fieldLink "LastSpeakersModel" (289 : Nat) "LastSpeakersModel" "lot" "J") ∈ lw_all := lw_g (lw_at lw_m5 39 rfl) rfl
theorem q1098 : (Jvm.Cond.fieldLink "LastSpeakersModel" (292 : Nat) "LastSpeakersModel" "rowMany" "I") ∈ lw_all := lw_g (lw_at lw_m5 40 rfl) rfl
theorem q1099 : (Jvm.Cond.fieldLink "LastSpeakersModel" (66 : Nat) "LastSpeakersModel" "rowPerson" "[I") ∈ lw_all := lw_g (lw_at lw_m5 41 rfl) rfl
theorem q1100 : (Jvm.Cond.fieldLink "LastSpeakersModel" (69 : Nat) "LastSpeakersModel" "rowThing" "[I") ∈ lw_all := lw_g (lw_at lw_m5 42 rfl) rfl
theorem q1101 : (Jvm.Cond.fieldLink "LastSpeakersModel" (72 : Nat) "LastSpeakersModel" "bookVersion" "[I") ∈ lw_all := lw_g (lw_at lw_m5 43 rfl) rfl
theorem q1102 : (Jvm.Cond.fieldLink "LastSpeakersModel" (75 : Nat) "LastSpeakersModel" "bookRight" "[I") ∈ lw_all := lw_g (lw_at lw_m5 44 rfl) rfl
theorem q1103 : (Jvm.Cond.fieldLink "LastSpeakersModel" (78 : Nat) "LastSpeakersModel" "isImage" "[Z") ∈ lw_all := lw_g (lw_at lw_m5 45 rfl) rfl
theorem q1104 : (Jvm.Cond.fieldLink "LastSpeakersModel" (82 : Nat) "LastSpeakersModel" "imageHad" "[I") ∈ lw_all := lw_g (lw_at lw_m5 46 rfl) rfl
theorem q1105 : (Jvm.Cond.fieldLink "LastSpeakersModel" (85 : Nat) "LastSpeakersModel" "imageHour" "[I") ∈ lw_all := lw_g (lw_at lw_m5 47 rfl) rfl
theorem q1106 : (Jvm.Cond.fieldLink "LastSpeakersModel" (88 : Nat) "LastSpeakersModel" "imageThere" "[I") ∈ lw_all := lw_g (lw_at lw_m5 48 rfl) rfl
theorem q1107 : (Jvm.Cond.fieldLink "LastSpeakersModel" (91 : Nat) "LastSpeakersModel" "imageAsked" "[I") ∈ lw_all := lw_g (lw_at lw_m5 49 rfl) rfl
theorem q1108 : (Jvm.Cond.fieldLink "LastSpeakersModel" (94 : Nat) "LastSpeakersModel" "imageLast" "[I") ∈ lw_all := lw_g (lw_at lw_m5 50 rfl) rfl
theorem q1109 : (Jvm.Cond.fieldLink "LastSpeakersModel" (97 : Nat) "LastSpeakersModel" "imageLogs" "[I") ∈ lw_all := lw_g (lw_at lw_m5 51 rfl) rfl
theorem q1110 : (Jvm.Cond.fieldLink "LastSpeakersModel" (100 : Nat) "LastSpeakersModel" "imageLog" "[I") ∈ lw_all := lw_g (lw_at lw_m5 52 rfl) rfl
theorem q1111 : (Jvm.Cond.fieldLink "LastSpeakersModel" (103 : Nat) "LastSpeakersModel" "imageHearings" "[I") ∈ lw_all := lw_g (lw_at lw_m5 53 rfl) rfl
theorem q1112 : (Jvm.Cond.fieldLink "LastSpeakersModel" (106 : Nat) "LastSpeakersModel" "imageHearing" "[I") ∈ lw_all := lw_g (lw_at lw_m5 54 rfl) rfl
theorem q1113 : (Jvm.Cond.fieldLink "LastSpeakersModel" (109 : Nat) "LastSpeakersModel" "imageLot" "[J") ∈ lw_all := lw_g (lw_at lw_m5 55 rfl) rfl
theorem q1114 : (Jvm.Cond.fieldLink "LastSpeakersModel" (204 : Nat) "LastSpeakersModel" "told" "I") ∈ lw_all := lw_g (lw_at lw_m5 56 rfl) rfl
theorem q1115 : (Jvm.Cond.fieldLink "LastSpeakersModel" (112 : Nat) "LastSpeakersModel" "can" "[Z") ∈ lw_all := lw_g (lw_at lw_m5 57 rfl) rfl
theorem q1116 : (Jvm.Cond.fieldLink "LastSpeakersModel" (115 : Nat) "LastSpeakersModel" "hadWith" "[I") ∈ lw_all := lw_g (lw_at lw_m5 58 rfl) rfl
theorem q1117 : (Jvm.Cond.fieldLink "LastSpeakersModel" (118 : Nat) "LastSpeakersModel" "ends" "[Z") ∈ lw_all := lw_g (lw_at lw_m5 59 rfl) rfl
theorem q1118 : (Jvm.Cond.fieldLink "LastSpeakersModel" (122 : Nat) "LastSpeakersModel" "mean" "[I") ∈ lw_all := lw_g (lw_at lw_m5 60 rfl) rfl
theorem q1119 : (Jvm.Cond.fieldLink "LastSpeakersModel" (125 : Nat) "LastSpeakersModel" "weight" "[J") ∈ lw_all := lw_g (lw_at lw_m5 61 rfl) rfl
theorem q1120 : (Jvm.Cond.fieldLink "LastSpeakersModel" (128 : Nat) "LastSpeakersModel" "newWeight" "[J") ∈ lw_all := lw_g (lw_at lw_m5 62 rfl) rfl
theorem q1121 : (Jvm.Cond.laysFinal "LastSpeakersModel" "LastSpeakersModel" "text" "[B") ∈ lw_all := lw_g (lw_at lw_m5 63 rfl) rfl
theorem q1122 : (Jvm.Cond.soleField "LastSpeakersModel" "text") ∈ lw_all := lw_g (lw_at lw_m5 64 rfl) rfl
theorem q1123 : (Jvm.Cond.lays "LastSpeakersModel" "LastSpeakersModel" "size" "I") ∈ lw_all := lw_g (lw_at lw_m5 65 rfl) rfl
theorem q1124 : (Jvm.Cond.soleField "LastSpeakersModel" "size") ∈ lw_all := lw_g (lw_at lw_m5 66 rfl) rfl
theorem q1125 : (Jvm.Cond.lays "LastSpeakersModel" "LastSpeakersModel" "at" "I") ∈ lw_all := lw_g (lw_at lw_m5 67 rfl) rfl
theorem q1126 : (Jvm.Cond.soleField "LastSpeakersModel" "at") ∈ lw_all := lw_g (lw_at lw_m5 68 rfl) rfl
theorem q1127 : (Jvm.Cond.lays "LastSpeakersModel" "LastSpeakersModel" "kind" "I") ∈ lw_all := lw_g (lw_at lw_m5 69 rfl) rfl
theorem q1128 : (Jvm.Cond.soleField "LastSpeakersModel" "kind") ∈ lw_all := lw_g (lw_at lw_m5 70 rfl) rfl
theorem q1129 : (Jvm.Cond.lays "LastSpeakersModel" "LastSpeakersModel" "tokenAt" "I") ∈ lw_all := lw_g (lw_at lw_m5 71 rfl) rfl
theorem q1130 : (Jvm.Cond.soleField "LastSpeakersModel" "tokenAt") ∈ lw_all := lw_g (lw_at lw_m5 72 rfl) rfl
theorem q1131 : (Jvm.Cond.lays "LastSpeakersModel" "LastSpeakersModel" "value" "J") ∈ lw_all := lw_g (lw_at lw_m5 73 rfl) rfl
theorem q1132 : (Jvm.Cond.soleField "LastSpeakersModel" "value") ∈ lw_all := lw_g (lw_at lw_m5 74 rfl) rfl
theorem q1133 : (Jvm.Cond.lays "LastSpeakersModel" "LastSpeakersModel" "newThings" "I") ∈ lw_all := lw_g (lw_at lw_m5 75 rfl) rfl
theorem q1134 : (Jvm.Cond.soleField "LastSpeakersModel" "newThings") ∈ lw_all := lw_g (lw_at lw_m5 76 rfl) rfl
theorem q1135 : (Jvm.Cond.laysFinal "LastSpeakersModel" "LastSpeakersModel" "newThingName" "[J") ∈ lw_all := lw_g (lw_at lw_m5 77 rfl) rfl
theorem q1136 : (Jvm.Cond.soleField "LastSpeakersModel" "newThingName") ∈ lw_all := lw_g (lw_at lw_m5 78 rfl) rfl
theorem q1137 : (Jvm.Cond.laysFinal "LastSpeakersModel" "LastSpeakersModel" "newThing" "[I") ∈ lw_all := lw_g (lw_at lw_m5 79 rfl) rfl
theorem q1138 : (Jvm.Cond.soleField "LastSpeakersModel" "newThing") ∈ lw_all := lw_g (lw_at lw_m5 80 rfl) rfl
theorem q1139 : (Jvm.Cond.lays "LastSpeakersModel" "LastSpeakersModel" "newPeople" "I") ∈ lw_all := lw_g (lw_at lw_m5 81 rfl) rfl
theorem q1140 : (Jvm.Cond.soleField "LastSpeakersModel" "newPeople") ∈ lw_all := lw_g (lw_at lw_m5 82 rfl) rfl
theorem q1141 : (Jvm.Cond.laysFinal "LastSpeakersModel" "LastSpeakersModel" "newPersonName" "[J") ∈ lw_all := lw_g (lw_at lw_m5 83 rfl) rfl
theorem q1142 : (Jvm.Cond.soleField "LastSpeakersModel" "newPersonName") ∈ lw_all := lw_g (lw_at lw_m5 84 rfl) rfl
theorem q1143 : (Jvm.Cond.laysFinal "LastSpeakersModel" "LastSpeakersModel" "newPerson" "[I") ∈ lw_all := lw_g (lw_at lw_m5 85 rfl) rfl
theorem q1144 : (Jvm.Cond.soleField "LastSpeakersModel" "newPerson") ∈ lw_all := lw_g (lw_at lw_m5 86 rfl) rfl
theorem q1145 : (Jvm.Cond.laysFinal "LastSpeakersModel" "LastSpeakersModel" "newKnows" "[I") ∈ lw_all := lw_g (lw_at lw_m5 87 rfl) rfl
theorem q1146 : (Jvm.Cond.soleField "LastSpeakersModel" "newKnows") ∈ lw_all := lw_g (lw_at lw_m5 88 rfl) rfl
theorem q1147 : (Jvm.Cond.laysFinal "LastSpeakersModel" "LastSpeakersModel" "newLean" "[I") ∈ lw_all := lw_g (lw_at lw_m5 89 rfl) rfl
theorem q1148 : (Jvm.Cond.soleField "LastSpeakersModel" "newLean") ∈ lw_all := lw_g (lw_at lw_m5 90 rfl) rfl
theorem q1149 : (Jvm.Cond.laysFinal "LastSpeakersModel" "LastSpeakersModel" "newNear" "[I") ∈ lw_all := lw_g (lw_at lw_m5 91 rfl) rfl
theorem q1150 : (Jvm.Cond.soleField "LastSpeakersModel" "newNear") ∈ lw_all := lw_g (lw_at lw_m5 92 rfl) rfl
theorem q1151 : (Jvm.Cond.lays "LastSpeakersModel" "LastSpeakersModel" "newLeans" "I") ∈ lw_all := lw_g (lw_at lw_m5 93 rfl) rfl
theorem q1152 : (Jvm.Cond.soleField "LastSpeakersModel" "newLeans") ∈ lw_all := lw_g (lw_at lw_m5 94 rfl) rfl
theorem q1153 : (Jvm.Cond.lays "LastSpeakersModel" "LastSpeakersModel" "newNears" "I") ∈ lw_all := lw_g (lw_at lw_m5 95 rfl) rfl
theorem q1154 : (Jvm.Cond.soleField "LastSpeakersModel" "newNears") ∈ lw_all := lw_g (lw_at lw_m5 96 rfl) rfl
theorem q1155 : (Jvm.Cond.lays "LastSpeakersModel" "LastSpeakersModel" "newFollows" "I") ∈ lw_all := lw_g (lw_at lw_m5 97 rfl) rfl
theorem q1156 : (Jvm.Cond.soleField "LastSpeakersModel" "newFollows") ∈ lw_all := lw_g (lw_at lw_m5 98 rfl) rfl
theorem q1157 : (Jvm.Cond.laysFinal "LastSpeakersModel" "LastSpeakersModel" "newFollow" "[I") ∈ lw_all := lw_g (lw_at lw_m5 99 rfl) rfl
theorem q1158 : (Jvm.Cond.soleField "LastSpeakersModel" "newFollow") ∈ lw_all := lw_g (lw_at lw_m5 100 rfl) rfl
theorem q1159 : (Jvm.Cond.lays "LastSpeakersModel" "LastSpeakersModel" "newMonth" "I") ∈ lw_all := lw_g (lw_at lw_m5 101 rfl) rfl
theorem q1160 : (Jvm.Cond.soleField "LastSpeakersModel" "newMonth") ∈ lw_all := lw_g (lw_at lw_m5 102 rfl) rfl
theorem q1161 : (Jvm.Cond.lays "LastSpeakersModel" "LastSpeakersModel" "things" "I") ∈ lw_all := lw_g (lw_at lw_m5 103 rfl) rfl
theorem q1162 : (Jvm.Cond.soleField "LastSpeakersModel" "things") ∈ lw_all := lw_g (lw_at lw_m5 104 rfl) rfl
theorem q1163 : (Jvm.Cond.laysFinal "LastSpeakersModel" "LastSpeakersModel" "thing2" "[I") ∈ lw_all := lw_g (lw_at lw_m5 105 rfl) rfl
theorem q1164 : (Jvm.Cond.soleField "LastSpeakersModel" "thing2") ∈ lw_all := lw_g (lw_at lw_m5 106 rfl) rfl
theorem q1165 : (Jvm.Cond.lays "LastSpeakersModel" "LastSpeakersModel" "people" "I") ∈ lw_all := lw_g (lw_at lw_m5 107 rfl) rfl
theorem q1166 : (Jvm.Cond.soleField "LastSpeakersModel" "people") ∈ lw_all := lw_g (lw_at lw_m5 108 rfl) rfl
theorem q1167 : (Jvm.Cond.laysFinal "LastSpeakersModel" "LastSpeakersModel" "stays" "[I") ∈ lw_all := lw_g (lw_at lw_m5 109 rfl) rfl
theorem q1168 : (Jvm.Cond.soleField "LastSpeakersModel" "stays") ∈ lw_all := lw_g (lw_at lw_m5 110 rfl) rfl
theorem q1169 : (Jvm.Cond.laysFinal "LastSpeakersModel" "LastSpeakersModel" "knows2" "[I") ∈ lw_all := lw_g (lw_at lw_m5 111 rfl) rfl
theorem q1170 : (Jvm.Cond.soleField "LastSpeakersModel" "knows2") ∈ lw_all := lw_g (lw_at lw_m5 112 rfl) rfl
theorem q1171 : (Jvm.Cond.laysFinal "LastSpeakersModel" "LastSpeakersModel" "lean" "[I") ∈ lw_all := lw_g (lw_at lw_m5 113 rfl) rfl
theorem q1172 : (Jvm.Cond.soleField "LastSpeakersModel" "lean") ∈ lw_all := lw_g (lw_at lw_m5 114 rfl) rfl
theorem q1173 : (Jvm.Cond.laysFinal "LastSpeakersModel" "LastSpeakersModel" "near" "[I") ∈ lw_all := lw_g (lw_at lw_m5 115 rfl) rfl
theorem q1174 : (Jvm.Cond.soleField "LastSpeakersModel" "near") ∈ lw_all := lw_g (lw_at lw_m5 116 rfl) rfl
theorem q1175 : (Jvm.Cond.lays "LastSpeakersModel" "LastSpeakersModel" "followMany" "I") ∈ lw_all := lw_g (lw_at lw_m5 117 rfl) rfl
theorem q1176 : (Jvm.Cond.soleField "LastSpeakersModel" "followMany") ∈ lw_all := lw_g (lw_at lw_m5 118 rfl) rfl
theorem q1177 : (Jvm.Cond.laysFinal "LastSpeakersModel" "LastSpeakersModel" "follow" "[I") ∈ lw_all := lw_g (lw_at lw_m5 119 rfl) rfl
theorem q1178 : (Jvm.Cond.soleField "LastSpeakersModel" "follow") ∈ lw_all := lw_g (lw_at lw_m5 120 rfl) rfl
theorem q1179 : (Jvm.Cond.lays "LastSpeakersModel" "LastSpeakersModel" "month" "I") ∈ lw_all := lw_g (lw_at lw_m5 121 rfl) rfl
theorem q1180 : (Jvm.Cond.soleField "LastSpeakersModel" "month") ∈ lw_all := lw_g (lw_at lw_m5 122 rfl) rfl
theorem q1181 : (Jvm.Cond.lays "LastSpeakersModel" "LastSpeakersModel" "had" "I") ∈ lw_all := lw_g (lw_at lw_m5 123 rfl) rfl
theorem q1182 : (Jvm.Cond.soleField "LastSpeakersModel" "had") ∈ lw_all := lw_g (lw_at lw_m5 124 rfl) rfl
theorem q1183 : (Jvm.Cond.lays "LastSpeakersModel" "LastSpeakersModel" "hour" "I") ∈ lw_all := lw_g (lw_at lw_m5 125 rfl) rfl
theorem q1184 : (Jvm.Cond.soleField "LastSpeakersModel" "hour") ∈ lw_all := lw_g (lw_at lw_m5 126 rfl) rfl
theorem q1185 : (Jvm.Cond.lays "LastSpeakersModel" "LastSpeakersModel" "there" "I") ∈ lw_all := lw_g (lw_at lw_m5 127 rfl) rfl
theorem q1186 : (Jvm.Cond.soleField "LastSpeakersModel" "there") ∈ lw_all := lw_g (lw_at lw_m5 128 rfl) rfl
theorem q1187 : (Jvm.Cond.laysFinal "LastSpeakersModel" "LastSpeakersModel" "asked" "[I") ∈ lw_all := lw_g (lw_at lw_m5 129 rfl) rfl
theorem q1188 : (Jvm.Cond.soleField "LastSpeakersModel" "asked") ∈ lw_all := lw_g (lw_at lw_m5 130 rfl) rfl
theorem q1189 : (Jvm.Cond.lays "LastSpeakersModel" "LastSpeakersModel" "lastThing" "I") ∈ lw_all := lw_g (lw_at lw_m5 131 rfl) rfl
theorem q1190 : (Jvm.Cond.soleField "LastSpeakersModel" "lastThing") ∈ lw_all := lw_g (lw_at lw_m5 132 rfl) rfl
theorem q1191 : (Jvm.Cond.lays "LastSpeakersModel" "LastSpeakersModel" "logs" "I") ∈ lw_all := lw_g (lw_at lw_m5 133 rfl) rfl
theorem q1192 : (Jvm.Cond.soleField "LastSpeakersModel" "logs") ∈ lw_all := lw_g (lw_at lw_m5 134 rfl) rfl
theorem q1193 : (Jvm.Cond.laysFinal "LastSpeakersModel" "LastSpeakersModel" "logRow" "[I") ∈ lw_all := lw_g (lw_at lw_m5 135 rfl) rfl
theorem q1194 : (Jvm.Cond.soleField "LastSpeakersModel" "logRow") ∈ lw_all := lw_g (lw_at lw_m5 136 rfl) rfl
theorem q1195 : (Jvm.Cond.lays "LastSpeakersModel" "LastSpeakersModel" "hearings" "I") ∈ lw_all := lw_g (lw_at lw_m5 137 rfl) rfl
theorem q1196 : (Jvm.Cond.soleField "LastSpeakersModel" "hearings") ∈ lw_all := lw_g (lw_at lw_m5 138 rfl) rfl
theorem q1197 : (Jvm.Cond.laysFinal "LastSpeakersModel" "LastSpeakersModel" "hearing" "[I") ∈ lw_all := lw_g (lw_at lw_m5 139 rfl) rfl
theorem q1198 : (Jvm.Cond.soleField "LastSpeakersModel" "hearing") ∈ lw_all := lw_g (lw_at lw_m5 140 rfl) rfl
theorem q1199 : (Jvm.Cond.lays "LastSpeakersModel" "LastSpeakersModel" "lot" "J") ∈ lw_all := lw_g (lw_at lw_m5 141 rfl) rfl
theorem q1200 : (Jvm.Cond.soleField "LastSpeakersModel" "lot") ∈ lw_all := lw_g (lw_at lw_m5 142 rfl) rfl
theorem q1201 : (Jvm.Cond.lays "LastSpeakersModel" "LastSpeakersModel" "rowMany" "I") ∈ lw_all := lw_g (lw_at lw_m5 143 rfl) rfl
theorem q1202 : (Jvm.Cond.soleField "LastSpeakersModel" "rowMany") ∈ lw_all := lw_g (lw_at lw_m5 144 rfl) rfl
theorem q1203 : (Jvm.Cond.laysFinal "LastSpeakersModel" "LastSpeakersModel" "rowPerson" "[I") ∈ lw_all := lw_g (lw_at lw_m5 145 rfl) rfl
theorem q1204 : (Jvm.Cond.soleField "LastSpeakersModel" "rowPerson") ∈ lw_all := lw_g (lw_at lw_m5 146 rfl) rfl
theorem q1205 : (Jvm.Cond.laysFinal "LastSpeakersModel" "LastSpeakersModel" "rowThing" "[I") ∈ lw_all := lw_g (lw_at lw_m5 147 rfl) rfl
theorem q1206 : (Jvm.Cond.soleField "LastSpeakersModel" "rowThing") ∈ lw_all := lw_g (lw_at lw_m5 148 rfl) rfl
theorem q1207 : (Jvm.Cond.laysFinal "LastSpeakersModel" "LastSpeakersModel" "bookVersion" "[I") ∈ lw_all := lw_g (lw_at lw_m5 149 rfl) rfl
theorem q1208 : (Jvm.Cond.soleField "LastSpeakersModel" "bookVersion") ∈ lw_all := lw_g (lw_at lw_m5 150 rfl) rfl
theorem q1209 : (Jvm.Cond.laysFinal "LastSpeakersModel" "LastSpeakersModel" "bookRight" "[I") ∈ lw_all := lw_g (lw_at lw_m5 151 rfl) rfl
theorem q1210 : (Jvm.Cond.soleField "LastSpeakersModel" "bookRight") ∈ lw_all := lw_g (lw_at lw_m5 152 rfl) rfl
theorem q1211 : (Jvm.Cond.laysFinal "LastSpeakersModel" "LastSpeakersModel" "isImage" "[Z") ∈ lw_all := lw_g (lw_at lw_m5 153 rfl) rfl
theorem q1212 : (Jvm.Cond.soleField "LastSpeakersModel" "isImage") ∈ lw_all := lw_g (lw_at lw_m5 154 rfl) rfl
theorem q1213 : (Jvm.Cond.laysFinal "LastSpeakersModel" "LastSpeakersModel" "imageHad" "[I") ∈ lw_all := lw_g (lw_at lw_m5 155 rfl) rfl
theorem q1214 : (Jvm.Cond.soleField "LastSpeakersModel" "imageHad") ∈ lw_all := lw_g (lw_at lw_m5 156 rfl) rfl
theorem q1215 : (Jvm.Cond.laysFinal "LastSpeakersModel" "LastSpeakersModel" "imageHour" "[I") ∈ lw_all := lw_g (lw_at lw_m5 157 rfl) rfl
theorem q1216 : (Jvm.Cond.soleField "LastSpeakersModel" "imageHour") ∈ lw_all := lw_g (lw_at lw_m5 158 rfl) rfl
theorem q1217 : (Jvm.Cond.laysFinal "LastSpeakersModel" "LastSpeakersModel" "imageThere" "[I") ∈ lw_all := lw_g (lw_at lw_m5 159 rfl) rfl
theorem q1218 : (Jvm.Cond.soleField "LastSpeakersModel" "imageThere") ∈ lw_all := lw_g (lw_at lw_m5 160 rfl) rfl
theorem q1219 : (Jvm.Cond.laysFinal "LastSpeakersModel" "LastSpeakersModel" "imageAsked" "[I") ∈ lw_all := lw_g (lw_at lw_m5 161 rfl) rfl
theorem q1220 : (Jvm.Cond.soleField "LastSpeakersModel" "imageAsked") ∈ lw_all := lw_g (lw_at lw_m5 162 rfl) rfl
theorem q1221 : (Jvm.Cond.laysFinal "LastSpeakersModel" "LastSpeakersModel" "imageLast" "[I") ∈ lw_all := lw_g (lw_at lw_m5 163 rfl) rfl
theorem q1222 : (Jvm.Cond.soleField "LastSpeakersModel" "imageLast") ∈ lw_all := lw_g (lw_at lw_m5 164 rfl) rfl
theorem q1223 : (Jvm.Cond.laysFinal "LastSpeakersModel" "LastSpeakersModel" "imageLogs" "[I") ∈ lw_all := lw_g (lw_at lw_m5 165 rfl) rfl
theorem q1224 : (Jvm.Cond.soleField "LastSpeakersModel" "imageLogs") ∈ lw_all := lw_g (lw_at lw_m5 166 rfl) rfl
theorem q1225 : (Jvm.Cond.laysFinal "LastSpeakersModel" "LastSpeakersModel" "imageLog" "[I") ∈ lw_all := lw_g (lw_at lw_m5 167 rfl) rfl
theorem q1226 : (Jvm.Cond.soleField "LastSpeakersModel" "imageLog") ∈ lw_all := lw_g (lw_at lw_m5 168 rfl) rfl
theorem q1227 : (Jvm.Cond.laysFinal "LastSpeakersModel" "LastSpeakersModel" "imageHearings" "[I") ∈ lw_all := lw_g (lw_at lw_m5 169 rfl) rfl
theorem q1228 : (Jvm.Cond.soleField "LastSpeakersModel" "imageHearings") ∈ lw_all := lw_g (lw_at lw_m5 170 rfl) rfl
theorem q1229 : (Jvm.Cond.laysFinal "LastSpeakersModel" "LastSpeakersModel" "imageHearing" "[I") ∈ lw_all := lw_g (lw_at lw_m5 171 rfl) rfl
theorem q1230 : (Jvm.Cond.soleField "LastSpeakersModel" "imageHearing") ∈ lw_all := lw_g (lw_at lw_m5 172 rfl) rfl
theorem q1231 : (Jvm.Cond.laysFinal "LastSpeakersModel" "LastSpeakersModel" "imageLot" "[J") ∈ lw_all := lw_g (lw_at lw_m5 173 rfl) rfl
theorem q1232 : (Jvm.Cond.soleField "LastSpeakersModel" "imageLot") ∈ lw_all := lw_g (lw_at lw_m5 174 rfl) rfl
theorem q1233 : (Jvm.Cond.lays "LastSpeakersModel" "LastSpeakersModel" "told" "I") ∈ lw_all := lw_g (lw_at lw_m5 175 rfl) rfl
theorem q1234 : (Jvm.Cond.soleField "LastSpeakersModel" "told") ∈ lw_all := lw_g (lw_at lw_m5 176 rfl) rfl
theorem q1235 : (Jvm.Cond.laysFinal "LastSpeakersModel" "LastSpeakersModel" "can" "[Z") ∈ lw_all := lw_g (lw_at lw_m5 177 rfl) rfl
theorem q1236 : (Jvm.Cond.soleField "LastSpeakersModel" "can") ∈ lw_all := lw_g (lw_at lw_m5 178 rfl) rfl
theorem q1237 : (Jvm.Cond.laysFinal "LastSpeakersModel" "LastSpeakersModel" "hadWith" "[I") ∈ lw_all := lw_g (lw_at lw_m5 179 rfl) rfl
theorem q1238 : (Jvm.Cond.soleField "LastSpeakersModel" "hadWith") ∈ lw_all := lw_g (lw_at lw_m5 180 rfl) rfl
theorem q1239 : (Jvm.Cond.laysFinal "LastSpeakersModel" "LastSpeakersModel" "ends" "[Z") ∈ lw_all := lw_g (lw_at lw_m5 181 rfl) rfl
theorem q1240 : (Jvm.Cond.soleField "LastSpeakersModel" "ends") ∈ lw_all := lw_g (lw_at lw_m5 182 rfl) rfl
theorem q1241 : (Jvm.Cond.laysFinal "LastSpeakersModel" "LastSpeakersModel" "mean" "[I") ∈ lw_all := lw_g (lw_at lw_m5 183 rfl) rfl
theorem q1242 : (Jvm.Cond.soleField "LastSpeakersModel" "mean") ∈ lw_all := lw_g (lw_at lw_m5 184 rfl) rfl
theorem q1243 : (Jvm.Cond.laysFinal "LastSpeakersModel" "LastSpeakersModel" "weight" "[J") ∈ lw_all := lw_g (lw_at lw_m5 185 rfl) rfl
theorem q1244 : (Jvm.Cond.soleField "LastSpeakersModel" "weight") ∈ lw_all := lw_g (lw_at lw_m5 186 rfl) rfl
theorem q1245 : (Jvm.Cond.laysFinal "LastSpeakersModel" "LastSpeakersModel" "newWeight" "[J") ∈ lw_all := lw_g (lw_at lw_m5 187 rfl) rfl
theorem q1246 : (Jvm.Cond.soleField "LastSpeakersModel" "newWeight") ∈ lw_all := lw_g (lw_at lw_m5 188 rfl) rfl
theorem q1247 : (Jvm.Cond.superclass "LastSpeakersModel" "java/lang/Object") ∈ lw_all := lw_g (lw_at lw_m5 189 rfl) rfl
theorem q1249 : (Jvm.Cond.instanceMethod ({ cls := "LastSpeakersModel", name := "feed", desc := "(IIIII)I" } : Jvm.MethodName)) ∈ lw_all := lw_g (lw_at lw_m5 191 rfl) rfl
theorem q1250 : (Jvm.Cond.selects "LastSpeakersModel" ({ cls := "LastSpeakersModel", name := "feed", desc := "(IIIII)I" } : Jvm.MethodName) ({ cls := "LastSpeakersModel", name := "feed", desc := "(IIIII)I" } : Jvm.MethodName)) ∈ lw_all := lw_g (lw_at lw_m5 192 rfl) rfl
theorem q1251 : (Jvm.Cond.code ({ cls := "LastSpeakersModel", name := "feed", desc := "(IIIII)I" } : Jvm.MethodName) prog_11_method_3_code (8 : Nat) (Option.some Jvm.ClassFile.FieldType.int)) ∈ lw_all := lw_g (lw_at lw_m5 193 rfl) rfl
theorem q1253 : (Jvm.Cond.instanceMethod ({ cls := "LastSpeakersModel", name := "end", desc := "(I)Z" } : Jvm.MethodName)) ∈ lw_all := lw_g (lw_at lw_m5 195 rfl) rfl
theorem q1254 : (Jvm.Cond.selects "LastSpeakersModel" ({ cls := "LastSpeakersModel", name := "end", desc := "(I)Z" } : Jvm.MethodName) ({ cls := "LastSpeakersModel", name := "end", desc := "(I)Z" } : Jvm.MethodName)) ∈ lw_all := lw_g (lw_at lw_m5 196 rfl) rfl
theorem q1255 : (Jvm.Cond.code ({ cls := "LastSpeakersModel", name := "end", desc := "(I)Z" } : Jvm.MethodName) prog_11_method_4_code (2 : Nat) (Option.some Jvm.ClassFile.FieldType.boolean)) ∈ lw_all := lw_g (lw_at lw_m5 197 rfl) rfl
theorem q1256 : (Jvm.Cond.methodLink "LastSpeakersModel" (135 : Nat) ({ cls := "LastSpeakersModel", name := "in", desc := "(III)Z" } : Jvm.MethodName)) ∈ lw_all := lw_g (lw_at lw_m5 198 rfl) rfl
theorem q1257 : (Jvm.Cond.static ({ cls := "LastSpeakersModel", name := "in", desc := "(III)Z" } : Jvm.MethodName)) ∈ lw_all := lw_g (lw_at lw_m5 199 rfl) rfl
theorem q1258 : (Jvm.Cond.code ({ cls := "LastSpeakersModel", name := "in", desc := "(III)Z" } : Jvm.MethodName) prog_11_method_2_code (3 : Nat) (Option.some Jvm.ClassFile.FieldType.boolean)) ∈ lw_all := lw_g (lw_at lw_m5 200 rfl) rfl
theorem q1260 : (Jvm.Cond.instanceMethod ({ cls := "LastSpeakersModel", name := "fault", desc := "()I" } : Jvm.MethodName)) ∈ lw_all := lw_g (lw_at lw_m5 202 rfl) rfl
theorem q1261 : (Jvm.Cond.selects "LastSpeakersModel" ({ cls := "LastSpeakersModel", name := "fault", desc := "()I" } : Jvm.MethodName) ({ cls := "LastSpeakersModel", name := "fault", desc := "()I" } : Jvm.MethodName)) ∈ lw_all := lw_g (lw_at lw_m5 203 rfl) rfl
theorem q1262 : (Jvm.Cond.code ({ cls := "LastSpeakersModel", name := "fault", desc := "()I" } : Jvm.MethodName) prog_11_method_22_code (2 : Nat) (Option.some Jvm.ClassFile.FieldType.int)) ∈ lw_all := lw_g (lw_at lw_m5 204 rfl) rfl
theorem q1263 : (Jvm.Cond.methodLink "LastSpeakersModel" (207 : Nat) ({ cls := "LastSpeakersModel", name := "leads", desc := "()V" } : Jvm.MethodName)) ∈ lw_all := lw_g (lw_at lw_m5 205 rfl) rfl
theorem q1264 : (Jvm.Cond.privateMethod ({ cls := "LastSpeakersModel", name := "leads", desc := "()V" } : Jvm.MethodName)) ∈ lw_tbl := lw_at lw_m5 206 rfl
theorem q1265 : (Jvm.Cond.instanceMethod ({ cls := "LastSpeakersModel", name := "leads", desc := "()V" } : Jvm.MethodName)) ∈ lw_all := lw_g (lw_at lw_m5 207 rfl) rfl
theorem q1266 : (Jvm.Cond.code ({ cls := "LastSpeakersModel", name := "leads", desc := "()V" } : Jvm.MethodName) prog_11_method_7_code (2 : Nat) (Option.none : Option Jvm.ClassFile.FieldType)) ∈ lw_all := lw_g (lw_at lw_m5 208 rfl) rfl
theorem q1267 : (Jvm.Cond.methodLink "LastSpeakersModel" (152 : Nat) ({ cls := "LastSpeakersModel", name := "isLetter", desc := "(I)Z" } : Jvm.MethodName)) ∈ lw_all := lw_g (lw_at lw_m5 209 rfl) rfl
theorem q1268 : (Jvm.Cond.static ({ cls := "LastSpeakersModel", name := "isLetter", desc := "(I)Z" } : Jvm.MethodName)) ∈ lw_all := lw_g (lw_at lw_m5 210 rfl) rfl
theorem q1269 : (Jvm.Cond.code ({ cls := "LastSpeakersModel", name := "isLetter", desc := "(I)Z" } : Jvm.MethodName) prog_11_method_5_code (1 : Nat) (Option.some Jvm.ClassFile.FieldType.boolean)) ∈ lw_all := lw_g (lw_at lw_m5 211 rfl) rfl
theorem q1270 : (Jvm.Cond.methodLink "LastSpeakersModel" (156 : Nat) ({ cls := "LastSpeakersModel", name := "isDigit", desc := "(I)Z" } : Jvm.MethodName)) ∈ lw_all := lw_g (lw_at lw_m5 212 rfl) rfl
theorem q1271 : (Jvm.Cond.static ({ cls := "LastSpeakersModel", name := "isDigit", desc := "(I)Z" } : Jvm.MethodName)) ∈ lw_all := lw_g (lw_at lw_m5 213 rfl) rfl
theorem q1272 : (Jvm.Cond.code ({ cls := "LastSpeakersModel", name := "isDigit", desc := "(I)Z" } : Jvm.MethodName) prog_11_method_6_code (1 : Nat) (Option.some Jvm.ClassFile.FieldType.boolean)) ∈ lw_all := lw_g (lw_at lw_m5 214 rfl) rfl
theorem q1273 : (Jvm.Cond.constantLong "LastSpeakersModel" (159 : Nat) (9999 : Int64)) ∈ lw_all := lw_g (lw_at lw_m5 215 rfl) rfl
theorem q1274 : (Jvm.Cond.constantLong "LastSpeakersModel" (161 : Nat) (10 : Int64)) ∈ lw_all := lw_g (lw_at lw_m5 216 rfl) rfl
theorem q1275 : (Jvm.Cond.constantLong "LastSpeakersModel" (163 : Nat) (48 : Int64)) ∈ lw_all := lw_g (lw_at lw_m5 217 rfl) rfl
theorem q1276 : (Jvm.Cond.methodLink "LastSpeakersModel" (254 : Nat) ({ cls := "LastSpeakersModel", name := "lineHere", desc := "()Z" } : Jvm.MethodName)) ∈ lw_all := lw_g (lw_at lw_m5 218 rfl) rfl
theorem q1277 : (Jvm.Cond.privateMethod ({ cls := "LastSpeakersModel", name := "lineHere", desc := "()Z" } : Jvm.MethodName)) ∈ lw_tbl := lw_at lw_m5 219 rfl
theorem q1278 : (Jvm.Cond.instanceMethod ({ cls := "LastSpeakersModel", name := "lineHere", desc := "()Z" } : Jvm.MethodName)) ∈ lw_all := lw_g (lw_at lw_m5 220 rfl) rfl
theorem q1279 : (Jvm.Cond.code ({ cls := "LastSpeakersModel", name := "lineHere", desc := "()Z" } : Jvm.MethodName) prog_11_method_21_code (1 : Nat) (Option.some Jvm.ClassFile.FieldType.boolean)) ∈ lw_all := lw_g (lw_at lw_m5 221 rfl) rfl
theorem q1280 : (Jvm.Cond.stringRef "LastSpeakersModel" (179 : Nat) "thing") ∈ lw_tbl := lw_at lw_m5 222 rfl
theorem q1281 : (Jvm.Cond.methodLink "LastSpeakersModel" (181 : Nat) ({ cls := "LastSpeakersModel", name := "isWord", desc := "(Ljava/lang/String;)Z" } : Jvm.MethodName)) ∈ lw_all := lw_g (lw_at lw_m5 223 rfl) rfl
theorem q1282 : (Jvm.Cond.privateMethod ({ cls := "LastSpeakersModel", name := "isWord", desc := "(Ljava/lang/String;)Z" } : Jvm.MethodName)) ∈ lw_tbl := lw_at lw_m5 224 rfl
theorem q1283 : (Jvm.Cond.instanceMethod ({ cls := "LastSpeakersModel", name := "isWord", desc := "(Ljava/lang/String;)Z" } : Jvm.MethodName)) ∈ lw_all := lw_g (lw_at lw_m5 225 rfl) rfl
theorem q1284 : (Jvm.Cond.code ({ cls := "LastSpeakersModel", name := "isWord", desc := "(Ljava/lang/String;)Z" } : Jvm.MethodName) prog_11_method_9_code (2 : Nat) (Option.some Jvm.ClassFile.FieldType.boolean)) ∈ lw_all := lw_g (lw_at lw_m5 226 rfl) rfl
theorem q1285 : (Jvm.Cond.methodLink "LastSpeakersModel" (175 : Nat) ({ cls := "LastSpeakersModel", name := "packed", desc := "(Ljava/lang/String;)J" } : Jvm.MethodName)) ∈ lw_all := lw_g (lw_at lw_m5 227 rfl) rfl
theorem q1286 : (Jvm.Cond.static ({ cls := "LastSpeakersModel", name := "packed", desc := "(Ljava/lang/String;)J" } : Jvm.MethodName)) ∈ lw_all := lw_g (lw_at lw_m5 228 rfl) rfl
theorem q1287 : (Jvm.Cond.code ({ cls := "LastSpeakersModel", name := "packed", desc := "(Ljava/lang/String;)J" } : Jvm.MethodName) prog_11_method_8_code (4 : Nat) (Option.some Jvm.ClassFile.FieldType.long)) ∈ lw_all := lw_g (lw_at lw_m5 229 rfl) rfl
theorem q1288 : (Jvm.Cond.methodLink "LastSpeakersModel" (165 : Nat) ({ cls := "java/lang/String", name := "length", desc := "()I" } : Jvm.MethodName)) ∈ lw_all := lw_g (lw_at lw_m5 230 rfl) rfl
theorem q1289 : (Jvm.Cond.methodLink "LastSpeakersModel" (171 : Nat) ({ cls := "java/lang/String", name := "charAt", desc := "(I)C" } : Jvm.MethodName)) ∈ lw_all := lw_g (lw_at lw_m5 231 rfl) rfl
theorem q1290 : (Jvm.Cond.methodLink "LastSpeakersModel" (229 : Nat) ({ cls := "LastSpeakersModel", name := "thingLine", desc := "()Z" } : Jvm.MethodName)) ∈ lw_all := lw_g (lw_at lw_m5 232 rfl) rfl
theorem q1291 : (Jvm.Cond.privateMethod ({ cls := "LastSpeakersModel", name := "thingLine", desc := "()Z" } : Jvm.MethodName)) ∈ lw_tbl := lw_at lw_m5 233 rfl
theorem q1292 : (Jvm.Cond.instanceMethod ({ cls := "LastSpeakersModel", name := "thingLine", desc := "()Z" } : Jvm.MethodName)) ∈ lw_all := lw_g (lw_at lw_m5 234 rfl) rfl
theorem q1293 : (Jvm.Cond.code ({ cls := "LastSpeakersModel", name := "thingLine", desc := "()Z" } : Jvm.MethodName) prog_11_method_15_code (3 : Nat) (Option.some Jvm.ClassFile.FieldType.boolean)) ∈ lw_all := lw_g (lw_at lw_m5 235 rfl) rfl
theorem q1294 : (Jvm.Cond.methodLink "LastSpeakersModel" (197 : Nat) ({ cls := "LastSpeakersModel", name := "isName", desc := "()Z" } : Jvm.MethodName)) ∈ lw_all := lw_g (lw_at lw_m5 236 rfl) rfl
theorem q1295 : (Jvm.Cond.privateMethod ({ cls := "LastSpeakersModel", name := "isName", desc := "()Z" } : Jvm.MethodName)) ∈ lw_tbl := lw_at lw_m5 237 rfl
theorem q1296 : (Jvm.Cond.instanceMethod ({ cls := "LastSpeakersModel", name := "isName", desc := "()Z" } : Jvm.MethodName)) ∈ lw_all := lw_g (lw_at lw_m5 238 rfl) rfl
theorem q1297 : (Jvm.Cond.code ({ cls := "LastSpeakersModel", name := "isName", desc := "()Z" } : Jvm.MethodName) prog_11_method_10_code (1 : Nat) (Option.some Jvm.ClassFile.FieldType.boolean)) ∈ lw_all := lw_g (lw_at lw_m5 239 rfl) rfl
theorem q1298 : (Jvm.Cond.stringRef "LastSpeakersModel" (185 : Nat) "person") ∈ lw_tbl := lw_at lw_m6 0 rfl
theorem q1299 : (Jvm.Cond.stringRef "LastSpeakersModel" (187 : Nat) "knows") ∈ lw_tbl := lw_at lw_m6 1 rfl
theorem q1300 : (Jvm.Cond.stringRef "LastSpeakersModel" (189 : Nat) "lean") ∈ lw_tbl := lw_at lw_m6 2 rfl
theorem q1301 : (Jvm.Cond.stringRef "LastSpeakersModel" (190 : Nat) "near") ∈ lw_tbl := lw_at lw_m6 3 rfl
theorem q1302 : (Jvm.Cond.stringRef "LastSpeakersModel" (191 : Nat) "follow") ∈ lw_tbl := lw_at lw_m6 4 rfl
theorem q1303 : (Jvm.Cond.stringRef "LastSpeakersModel" (192 : Nat) "month") ∈ lw_tbl := lw_at lw_m6 5 rfl
theorem q1304 : (Jvm.Cond.methodLink "LastSpeakersModel" (210 : Nat) ({ cls := "LastSpeakersModel", name := "thingHere", desc := "()I" } : Jvm.MethodName)) ∈ lw_all := lw_g (lw_at lw_m6 6 rfl) rfl
theorem q1305 : (Jvm.Cond.privateMethod ({ cls := "LastSpeakersModel", name := "thingHere", desc := "()I" } : Jvm.MethodName)) ∈ lw_tbl := lw_at lw_m6 7 rfl
theorem q1306 : (Jvm.Cond.instanceMethod ({ cls := "LastSpeakersModel", name := "thingHere", desc := "()I" } : Jvm.MethodName)) ∈ lw_all := lw_g (lw_at lw_m6 8 rfl) rfl
theorem q1307 : (Jvm.Cond.code ({ cls := "LastSpeakersModel", name := "thingHere", desc := "()I" } : Jvm.MethodName) prog_11_method_11_code (2 : Nat) (Option.some Jvm.ClassFile.FieldType.int)) ∈ lw_all := lw_g (lw_at lw_m6 9 rfl) rfl
theorem q1308 : (Jvm.Cond.methodLink "LastSpeakersModel" (213 : Nat) ({ cls := "LastSpeakersModel", name := "personHere", desc := "()I" } : Jvm.MethodName)) ∈ lw_all := lw_g (lw_at lw_m6 10 rfl) rfl
theorem q1309 : (Jvm.Cond.privateMethod ({ cls := "LastSpeakersModel", name := "personHere", desc := "()I" } : Jvm.MethodName)) ∈ lw_tbl := lw_at lw_m6 11 rfl
theorem q1310 : (Jvm.Cond.instanceMethod ({ cls := "LastSpeakersModel", name := "personHere", desc := "()I" } : Jvm.MethodName)) ∈ lw_all := lw_g (lw_at lw_m6 12 rfl) rfl
theorem q1311 : (Jvm.Cond.code ({ cls := "LastSpeakersModel", name := "personHere", desc := "()I" } : Jvm.MethodName) prog_11_method_12_code (2 : Nat) (Option.some Jvm.ClassFile.FieldType.int)) ∈ lw_all := lw_g (lw_at lw_m6 13 rfl) rfl
theorem q1312 : (Jvm.Cond.methodLink "LastSpeakersModel" (216 : Nat) ({ cls := "LastSpeakersModel", name := "number", desc := "(II)Z" } : Jvm.MethodName)) ∈ lw_all := lw_g (lw_at lw_m6 14 rfl) rfl
theorem q1313 : (Jvm.Cond.privateMethod ({ cls := "LastSpeakersModel", name := "number", desc := "(II)Z" } : Jvm.MethodName)) ∈ lw_tbl := lw_at lw_m6 15 rfl
theorem q1314 : (Jvm.Cond.instanceMethod ({ cls := "LastSpeakersModel", name := "number", desc := "(II)Z" } : Jvm.MethodName)) ∈ lw_all := lw_g (lw_at lw_m6 16 rfl) rfl
theorem q1315 : (Jvm.Cond.code ({ cls := "LastSpeakersModel", name := "number", desc := "(II)Z" } : Jvm.MethodName) prog_11_method_13_code (3 : Nat) (Option.some Jvm.ClassFile.FieldType.boolean)) ∈ lw_all := lw_g (lw_at lw_m6 17 rfl) rfl
theorem q1316 : (Jvm.Cond.methodLink "LastSpeakersModel" (220 : Nat) ({ cls := "LastSpeakersModel", name := "closes", desc := "()Z" } : Jvm.MethodName)) ∈ lw_all := lw_g (lw_at lw_m6 18 rfl) rfl
theorem q1317 : (Jvm.Cond.privateMethod ({ cls := "LastSpeakersModel", name := "closes", desc := "()Z" } : Jvm.MethodName)) ∈ lw_tbl := lw_at lw_m6 19 rfl
theorem q1318 : (Jvm.Cond.instanceMethod ({ cls := "LastSpeakersModel", name := "closes", desc := "()Z" } : Jvm.MethodName)) ∈ lw_all := lw_g (lw_at lw_m6 20 rfl) rfl
theorem q1319 : (Jvm.Cond.code ({ cls := "LastSpeakersModel", name := "closes", desc := "()Z" } : Jvm.MethodName) prog_11_method_14_code (1 : Nat) (Option.some Jvm.ClassFile.FieldType.boolean)) ∈ lw_all := lw_g (lw_at lw_m6 21 rfl) rfl
theorem q1320 : (Jvm.Cond.methodLink "LastSpeakersModel" (232 : Nat) ({ cls := "LastSpeakersModel", name := "personLine", desc := "()Z" } : Jvm.MethodName)) ∈ lw_all := lw_g (lw_at lw_m6 22 rfl) rfl
theorem q1321 : (Jvm.Cond.privateMethod ({ cls := "LastSpeakersModel", name := "personLine", desc := "()Z" } : Jvm.MethodName)) ∈ lw_tbl := lw_at lw_m6 23 rfl
theorem q1322 : (Jvm.Cond.instanceMethod ({ cls := "LastSpeakersModel", name := "personLine", desc := "()Z" } : Jvm.MethodName)) ∈ lw_all := lw_g (lw_at lw_m6 24 rfl) rfl
theorem q1323 : (Jvm.Cond.code ({ cls := "LastSpeakersModel", name := "personLine", desc := "()Z" } : Jvm.MethodName) prog_11_method_16_code (3 : Nat) (Option.some Jvm.ClassFile.FieldType.boolean)) ∈ lw_all := lw_g (lw_at lw_m6 25 rfl) rfl
theorem q1324 : (Jvm.Cond.methodLink "LastSpeakersModel" (235 : Nat) ({ cls := "LastSpeakersModel", name := "knowsLine", desc := "()Z" } : Jvm.MethodName)) ∈ lw_all := lw_g (lw_at lw_m6 26 rfl) rfl
theorem q1325 : (Jvm.Cond.privateMethod ({ cls := "LastSpeakersModel", name := "knowsLine", desc := "()Z" } : Jvm.MethodName)) ∈ lw_tbl := lw_at lw_m6 27 rfl
theorem q1326 : (Jvm.Cond.instanceMethod ({ cls := "LastSpeakersModel", name := "knowsLine", desc := "()Z" } : Jvm.MethodName)) ∈ lw_all := lw_g (lw_at lw_m6 28 rfl) rfl
theorem q1327 : (Jvm.Cond.code ({ cls := "LastSpeakersModel", name := "knowsLine", desc := "()Z" } : Jvm.MethodName) prog_11_method_17_code (5 : Nat) (Option.some Jvm.ClassFile.FieldType.boolean)) ∈ lw_all := lw_g (lw_at lw_m6 29 rfl) rfl
theorem q1328 : (Jvm.Cond.methodLink "LastSpeakersModel" (238 : Nat) ({ cls := "LastSpeakersModel", name := "followLine", desc := "()Z" } : Jvm.MethodName)) ∈ lw_all := lw_g (lw_at lw_m6 30 rfl) rfl
theorem q1329 : (Jvm.Cond.privateMethod ({ cls := "LastSpeakersModel", name := "followLine", desc := "()Z" } : Jvm.MethodName)) ∈ lw_tbl := lw_at lw_m6 31 rfl
theorem q1330 : (Jvm.Cond.instanceMethod ({ cls := "LastSpeakersModel", name := "followLine", desc := "()Z" } : Jvm.MethodName)) ∈ lw_all := lw_g (lw_at lw_m6 32 rfl) rfl
theorem q1331 : (Jvm.Cond.code ({ cls := "LastSpeakersModel", name := "followLine", desc := "()Z" } : Jvm.MethodName) prog_11_method_19_code (5 : Nat) (Option.some Jvm.ClassFile.FieldType.boolean)) ∈ lw_all := lw_g (lw_at lw_m6 33 rfl) rfl
theorem q1332 : (Jvm.Cond.methodLink "LastSpeakersModel" (241 : Nat) ({ cls := "LastSpeakersModel", name := "monthLine", desc := "()Z" } : Jvm.MethodName)) ∈ lw_all := lw_g (lw_at lw_m6 34 rfl) rfl
theorem q1333 : (Jvm.Cond.privateMethod ({ cls := "LastSpeakersModel", name := "monthLine", desc := "()Z" } : Jvm.MethodName)) ∈ lw_tbl := lw_at lw_m6 35 rfl
theorem q1334 : (Jvm.Cond.instanceMethod ({ cls := "LastSpeakersModel", name := "monthLine", desc := "()Z" } : Jvm.MethodName)) ∈ lw_all := lw_g (lw_at lw_m6 36 rfl) rfl
theorem q1335 : (Jvm.Cond.code ({ cls := "LastSpeakersModel", name := "monthLine", desc := "()Z" } : Jvm.MethodName) prog_11_method_20_code (1 : Nat) (Option.some Jvm.ClassFile.FieldType.boolean)) ∈ lw_all := lw_g (lw_at lw_m6 37 rfl) rfl
theorem q1336 : (Jvm.Cond.methodLink "LastSpeakersModel" (247 : Nat) ({ cls := "LastSpeakersModel", name := "coupleLine", desc := "([I)Z" } : Jvm.MethodName)) ∈ lw_all := lw_g (lw_at lw_m6 38 rfl) rfl
theorem q1337 : (Jvm.Cond.privateMethod ({ cls := "LastSpeakersModel", name := "coupleLine", desc := "([I)Z" } : Jvm.MethodName)) ∈ lw_tbl := lw_at lw_m6 39 rfl
theorem q1338 : (Jvm.Cond.instanceMethod ({ cls := "LastSpeakersModel", name := "coupleLine", desc := "([I)Z" } : Jvm.MethodName)) ∈ lw_all := lw_g (lw_at lw_m6 40 rfl) rfl
theorem q1339 : (Jvm.Cond.code ({ cls := "LastSpeakersModel", name := "coupleLine", desc := "([I)Z" } : Jvm.MethodName) prog_11_method_18_code (4 : Nat) (Option.some Jvm.ClassFile.FieldType.boolean)) ∈ lw_all := lw_g (lw_at lw_m6 41 rfl) rfl
theorem q1341 : (Jvm.Cond.instanceMethod ({ cls := "LastSpeakersModel", name := "tongue", desc := "()I" } : Jvm.MethodName)) ∈ lw_all := lw_g (lw_at lw_m6 43 rfl) rfl
theorem q1342 : (Jvm.Cond.selects "LastSpeakersModel" ({ cls := "LastSpeakersModel", name := "tongue", desc := "()I" } : Jvm.MethodName) ({ cls := "LastSpeakersModel", name := "tongue", desc := "()I" } : Jvm.MethodName)) ∈ lw_all := lw_g (lw_at lw_m6 44 rfl) rfl
theorem q1343 : (Jvm.Cond.code ({ cls := "LastSpeakersModel", name := "tongue", desc := "()I" } : Jvm.MethodName) prog_11_method_23_code (2 : Nat) (Option.some Jvm.ClassFile.FieldType.int)) ∈ lw_all := lw_g (lw_at lw_m6 45 rfl) rfl
theorem q1344 : (Jvm.Cond.methodLink "LastSpeakersModel" (257 : Nat) ({ cls := "LastSpeakersModel", name := "fault", desc := "()I" } : Jvm.MethodName)) ∈ lw_all := lw_g (lw_at lw_m6 46 rfl) rfl
theorem q1346 : (Jvm.Cond.instanceMethod ({ cls := "LastSpeakersModel", name := "thing", desc := "(II)I" } : Jvm.MethodName)) ∈ lw_all := lw_g (lw_at lw_m6 48 rfl) rfl
theorem q1347 : (Jvm.Cond.selects "LastSpeakersModel" ({ cls := "LastSpeakersModel", name := "thing", desc := "(II)I" } : Jvm.MethodName) ({ cls := "LastSpeakersModel", name := "thing", desc := "(II)I" } : Jvm.MethodName)) ∈ lw_all := lw_g (lw_at lw_m6 49 rfl) rfl
theorem q1348 : (Jvm.Cond.code ({ cls := "LastSpeakersModel", name := "thing", desc := "(II)I" } : Jvm.MethodName) prog_11_method_33_code (3 : Nat) (Option.some Jvm.ClassFile.FieldType.int)) ∈ lw_all := lw_g (lw_at lw_m6 50 rfl) rfl
theorem q1349 : (Jvm.Cond.methodLink "LastSpeakersModel" (302 : Nat) ({ cls := "LastSpeakersModel", name := "isThing", desc := "(I)Z" } : Jvm.MethodName)) ∈ lw_all := lw_g (lw_at lw_m6 51 rfl) rfl
theorem q1350 : (Jvm.Cond.privateMethod ({ cls := "LastSpeakersModel", name := "isThing", desc := "(I)Z" } : Jvm.MethodName)) ∈ lw_tbl := lw_at lw_m6 52 rfl
theorem q1351 : (Jvm.Cond.instanceMethod ({ cls := "LastSpeakersModel", name := "isThing", desc := "(I)Z" } : Jvm.MethodName)) ∈ lw_all := lw_g (lw_at lw_m6 53 rfl) rfl
theorem q1352 : (Jvm.Cond.code ({ cls := "LastSpeakersModel", name := "isThing", desc := "(I)Z" } : Jvm.MethodName) prog_11_method_24_code (2 : Nat) (Option.some Jvm.ClassFile.FieldType.boolean)) ∈ lw_all := lw_g (lw_at lw_m6 54 rfl) rfl
theorem q1353 : (Jvm.Cond.methodLink "LastSpeakersModel" (298 : Nat) ({ cls := "LastSpeakersModel", name := "worth", desc := "(I)I" } : Jvm.MethodName)) ∈ lw_all := lw_g (lw_at lw_m6 55 rfl) rfl
theorem q1354 : (Jvm.Cond.privateMethod ({ cls := "LastSpeakersModel", name := "worth", desc := "(I)I" } : Jvm.MethodName)) ∈ lw_tbl := lw_at lw_m6 56 rfl
theorem q1355 : (Jvm.Cond.instanceMethod ({ cls := "LastSpeakersModel", name := "worth", desc := "(I)I" } : Jvm.MethodName)) ∈ lw_all := lw_g (lw_at lw_m6 57 rfl) rfl
theorem q1356 : (Jvm.Cond.code ({ cls := "LastSpeakersModel", name := "worth", desc := "(I)I" } : Jvm.MethodName) prog_11_method_27_code (2 : Nat) (Option.some Jvm.ClassFile.FieldType.int)) ∈ lw_all := lw_g (lw_at lw_m6 58 rfl) rfl
theorem q1357 : (Jvm.Cond.methodLink "LastSpeakersModel" (305 : Nat) ({ cls := "LastSpeakersModel", name := "hours", desc := "(I)I" } : Jvm.MethodName)) ∈ lw_all := lw_g (lw_at lw_m6 59 rfl) rfl
theorem q1358 : (Jvm.Cond.privateMethod ({ cls := "LastSpeakersModel", name := "hours", desc := "(I)I" } : Jvm.MethodName)) ∈ lw_tbl := lw_at lw_m6 60 rfl
theorem q1359 : (Jvm.Cond.instanceMethod ({ cls := "LastSpeakersModel", name := "hours", desc := "(I)I" } : Jvm.MethodName)) ∈ lw_all := lw_g (lw_at lw_m6 61 rfl) rfl
theorem q1360 : (Jvm.Cond.code ({ cls := "LastSpeakersModel", name := "hours", desc := "(I)I" } : Jvm.MethodName) prog_11_method_28_code (2 : Nat) (Option.some Jvm.ClassFile.FieldType.int)) ∈ lw_all := lw_g (lw_at lw_m6 62 rfl) rfl
theorem q1361 : (Jvm.Cond.methodLink "LastSpeakersModel" (295 : Nat) ({ cls := "LastSpeakersModel", name := "has", desc := "(II)Z" } : Jvm.MethodName)) ∈ lw_all := lw_g (lw_at lw_m6 63 rfl) rfl
theorem q1362 : (Jvm.Cond.static ({ cls := "LastSpeakersModel", name := "has", desc := "(II)Z" } : Jvm.MethodName)) ∈ lw_all := lw_g (lw_at lw_m6 64 rfl) rfl
theorem q1363 : (Jvm.Cond.code ({ cls := "LastSpeakersModel", name := "has", desc := "(II)Z" } : Jvm.MethodName) prog_11_method_26_code (2 : Nat) (Option.some Jvm.ClassFile.FieldType.boolean)) ∈ lw_all := lw_g (lw_at lw_m6 65 rfl) rfl
theorem q1365 : (Jvm.Cond.instanceMethod ({ cls := "LastSpeakersModel", name := "person", desc := "(II)I" } : Jvm.MethodName)) ∈ lw_all := lw_g (lw_at lw_m6 67 rfl) rfl
theorem q1366 : (Jvm.Cond.selects "LastSpeakersModel" ({ cls := "LastSpeakersModel", name := "person", desc := "(II)I" } : Jvm.MethodName) ({ cls := "LastSpeakersModel", name := "person", desc := "(II)I" } : Jvm.MethodName)) ∈ lw_all := lw_g (lw_at lw_m6 68 rfl) rfl
theorem q1367 : (Jvm.Cond.code ({ cls := "LastSpeakersModel", name := "person", desc := "(II)I" } : Jvm.MethodName) prog_11_method_34_code (3 : Nat) (Option.some Jvm.ClassFile.FieldType.int)) ∈ lw_all := lw_g (lw_at lw_m6 69 rfl) rfl
theorem q1368 : (Jvm.Cond.methodLink "LastSpeakersModel" (308 : Nat) ({ cls := "LastSpeakersModel", name := "isPerson", desc := "(I)Z" } : Jvm.MethodName)) ∈ lw_all := lw_g (lw_at lw_m6 70 rfl) rfl
theorem q1369 : (Jvm.Cond.privateMethod ({ cls := "LastSpeakersModel", name := "isPerson", desc := "(I)Z" } : Jvm.MethodName)) ∈ lw_tbl := lw_at lw_m6 71 rfl
theorem q1370 : (Jvm.Cond.instanceMethod ({ cls := "LastSpeakersModel", name := "isPerson", desc := "(I)Z" } : Jvm.MethodName)) ∈ lw_all := lw_g (lw_at lw_m6 72 rfl) rfl
theorem q1371 : (Jvm.Cond.code ({ cls := "LastSpeakersModel", name := "isPerson", desc := "(I)Z" } : Jvm.MethodName) prog_11_method_25_code (2 : Nat) (Option.some Jvm.ClassFile.FieldType.boolean)) ∈ lw_all := lw_g (lw_at lw_m6 73 rfl) rfl
theorem q1373 : (Jvm.Cond.instanceMethod ({ cls := "LastSpeakersModel", name := "knows", desc := "(III)I" } : Jvm.MethodName)) ∈ lw_all := lw_g (lw_at lw_m6 75 rfl) rfl
theorem q1374 : (Jvm.Cond.selects "LastSpeakersModel" ({ cls := "LastSpeakersModel", name := "knows", desc := "(III)I" } : Jvm.MethodName) ({ cls := "LastSpeakersModel", name := "knows", desc := "(III)I" } : Jvm.MethodName)) ∈ lw_all := lw_g (lw_at lw_m6 76 rfl) rfl
theorem q1375 : (Jvm.Cond.code ({ cls := "LastSpeakersModel", name := "knows", desc := "(III)I" } : Jvm.MethodName) prog_11_method_35_code (5 : Nat) (Option.some Jvm.ClassFile.FieldType.int)) ∈ lw_all := lw_g (lw_at lw_m6 77 rfl) rfl
theorem q1376 : (Jvm.Cond.methodLink "LastSpeakersModel" (311 : Nat) ({ cls := "LastSpeakersModel", name := "clearly", desc := "(II)I" } : Jvm.MethodName)) ∈ lw_all := lw_g (lw_at lw_m6 78 rfl) rfl
theorem q1377 : (Jvm.Cond.privateMethod ({ cls := "LastSpeakersModel", name := "clearly", desc := "(II)I" } : Jvm.MethodName)) ∈ lw_tbl := lw_at lw_m6 79 rfl
theorem q1378 : (Jvm.Cond.instanceMethod ({ cls := "LastSpeakersModel", name := "clearly", desc := "(II)I" } : Jvm.MethodName)) ∈ lw_all := lw_g (lw_at lw_m6 80 rfl) rfl
theorem q1379 : (Jvm.Cond.code ({ cls := "LastSpeakersModel", name := "clearly", desc := "(II)I" } : Jvm.MethodName) prog_11_method_29_code (3 : Nat) (Option.some Jvm.ClassFile.FieldType.int)) ∈ lw_all := lw_g (lw_at lw_m6 81 rfl) rfl
theorem q1381 : (Jvm.Cond.instanceMethod ({ cls := "LastSpeakersModel", name := "follows", desc := "(I)I" } : Jvm.MethodName)) ∈ lw_all := lw_g (lw_at lw_m6 83 rfl) rfl
theorem q1382 : (Jvm.Cond.selects "LastSpeakersModel" ({ cls := "LastSpeakersModel", name := "follows", desc := "(I)I" } : Jvm.MethodName) ({ cls := "LastSpeakersModel", name := "follows", desc := "(I)I" } : Jvm.MethodName)) ∈ lw_all := lw_g (lw_at lw_m6 84 rfl) rfl
theorem q1383 : (Jvm.Cond.code ({ cls := "LastSpeakersModel", name := "follows", desc := "(I)I" } : Jvm.MethodName) prog_11_method_37_code (2 : Nat) (Option.some Jvm.ClassFile.FieldType.int)) ∈ lw_all := lw_g (lw_at lw_m6 85 rfl) rfl
theorem q1384 : (Jvm.Cond.methodLink "LastSpeakersModel" (315 : Nat) ({ cls := "LastSpeakersModel", name := "isHeap", desc := "(I)Z" } : Jvm.MethodName)) ∈ lw_all := lw_g (lw_at lw_m6 86 rfl) rfl
theorem q1385 : (Jvm.Cond.privateMethod ({ cls := "LastSpeakersModel", name := "isHeap", desc := "(I)Z" } : Jvm.MethodName)) ∈ lw_tbl := lw_at lw_m6 87 rfl
theorem q1386 : (Jvm.Cond.instanceMethod ({ cls := "LastSpeakersModel", name := "isHeap", desc := "(I)Z" } : Jvm.MethodName)) ∈ lw_all := lw_g (lw_at lw_m6 88 rfl) rfl
theorem q1387 : (Jvm.Cond.code ({ cls := "LastSpeakersModel", name := "isHeap", desc := "(I)Z" } : Jvm.MethodName) prog_11_method_36_code (2 : Nat) (Option.some Jvm.ClassFile.FieldType.boolean)) ∈ lw_all := lw_g (lw_at lw_m6 89 rfl) rfl
theorem q1388 : (Jvm.Cond.methodLink "LastSpeakersModel" (318 : Nat) ({ cls := "LastSpeakersModel", name := "withFollows", desc := "(II)I" } : Jvm.MethodName)) ∈ lw_all := lw_g (lw_at lw_m6 90 rfl) rfl
theorem q1389 : (Jvm.Cond.privateMethod ({ cls := "LastSpeakersModel", name := "withFollows", desc := "(II)I" } : Jvm.MethodName)) ∈ lw_tbl := lw_at lw_m6 91 rfl
theorem q1390 : (Jvm.Cond.instanceMethod ({ cls := "LastSpeakersModel", name := "withFollows", desc := "(II)I" } : Jvm.MethodName)) ∈ lw_all := lw_g (lw_at lw_m6 92 rfl) rfl
theorem q1391 : (Jvm.Cond.code ({ cls := "LastSpeakersModel", name := "withFollows", desc := "(II)I" } : Jvm.MethodName) prog_11_method_32_code (7 : Nat) (Option.some Jvm.ClassFile.FieldType.int)) ∈ lw_all := lw_g (lw_at lw_m6 93 rfl) rfl
theorem q1393 : (Jvm.Cond.instanceMethod ({ cls := "LastSpeakersModel", name := "have", desc := "(I)I" } : Jvm.MethodName)) ∈ lw_all := lw_g (lw_at lw_m6 95 rfl) rfl
theorem q1394 : (Jvm.Cond.selects "LastSpeakersModel" ({ cls := "LastSpeakersModel", name := "have", desc := "(I)I" } : Jvm.MethodName) ({ cls := "LastSpeakersModel", name := "have", desc := "(I)I" } : Jvm.MethodName)) ∈ lw_all := lw_g (lw_at lw_m6 96 rfl) rfl
theorem q1395 : (Jvm.Cond.code ({ cls := "LastSpeakersModel", name := "have", desc := "(I)I" } : Jvm.MethodName) prog_11_method_38_code (2 : Nat) (Option.some Jvm.ClassFile.FieldType.int)) ∈ lw_all := lw_g (lw_at lw_m6 97 rfl) rfl
theorem q1396 : (Jvm.Cond.methodLink "LastSpeakersModel" (321 : Nat) ({ cls := "LastSpeakersModel", name := "ones", desc := "(I)I" } : Jvm.MethodName)) ∈ lw_all := lw_g (lw_at lw_m6 98 rfl) rfl
theorem q1397 : (Jvm.Cond.static ({ cls := "LastSpeakersModel", name := "ones", desc := "(I)I" } : Jvm.MethodName)) ∈ lw_all := lw_g (lw_at lw_m6 99 rfl) rfl
theorem q1398 : (Jvm.Cond.code ({ cls := "LastSpeakersModel", name := "ones", desc := "(I)I" } : Jvm.MethodName) prog_11_method_31_code (3 : Nat) (Option.some Jvm.ClassFile.FieldType.int)) ∈ lw_all := lw_g (lw_at lw_m6 100 rfl) rfl
theorem q1400 : (Jvm.Cond.instanceMethod ({ cls := "LastSpeakersModel", name := "seed", desc := "(I)Z" } : Jvm.MethodName)) ∈ lw_all := lw_g (lw_at lw_m6 102 rfl) rfl
theorem q1401 : (Jvm.Cond.selects "LastSpeakersModel" ({ cls := "LastSpeakersModel", name := "seed", desc := "(I)Z" } : Jvm.MethodName) ({ cls := "LastSpeakersModel", name := "seed", desc := "(I)Z" } : Jvm.MethodName)) ∈ lw_all := lw_g (lw_at lw_m6 103 rfl) rfl
theorem q1402 : (Jvm.Cond.code ({ cls := "LastSpeakersModel", name := "seed", desc := "(I)Z" } : Jvm.MethodName) prog_11_method_39_code (2 : Nat) (Option.some Jvm.ClassFile.FieldType.boolean)) ∈ lw_all := lw_g (lw_at lw_m6 104 rfl) rfl
theorem q1403 : (Jvm.Cond.constant "LastSpeakersModel" (324 : Nat) (1000000 : Int32)) ∈ lw_all := lw_g (lw_at lw_m6 105 rfl) rfl
theorem q1405 : (Jvm.Cond.instanceMethod ({ cls := "LastSpeakersModel", name := "may", desc := "(II)I" } : Jvm.MethodName)) ∈ lw_all := lw_g (lw_at lw_m6 107 rfl) rfl
theorem q1406 : (Jvm.Cond.selects "LastSpeakersModel" ({ cls := "LastSpeakersModel", name := "may", desc := "(II)I" } : Jvm.MethodName) ({ cls := "LastSpeakersModel", name := "may", desc := "(II)I" } : Jvm.MethodName)) ∈ lw_all := lw_g (lw_at lw_m6 108 rfl) rfl
theorem q1407 : (Jvm.Cond.code ({ cls := "LastSpeakersModel", name := "may", desc := "(II)I" } : Jvm.MethodName) prog_11_method_42_code (3 : Nat) (Option.some Jvm.ClassFile.FieldType.int)) ∈ lw_all := lw_g (lw_at lw_m6 109 rfl) rfl
theorem q1408 : (Jvm.Cond.methodLink "LastSpeakersModel" (333 : Nat) ({ cls := "LastSpeakersModel", name := "canAsk", desc := "(II)Z" } : Jvm.MethodName)) ∈ lw_all := lw_g (lw_at lw_m6 110 rfl) rfl
theorem q1409 : (Jvm.Cond.privateMethod ({ cls := "LastSpeakersModel", name := "canAsk", desc := "(II)Z" } : Jvm.MethodName)) ∈ lw_tbl := lw_at lw_m6 111 rfl
theorem q1410 : (Jvm.Cond.instanceMethod ({ cls := "LastSpeakersModel", name := "canAsk", desc := "(II)Z" } : Jvm.MethodName)) ∈ lw_all := lw_g (lw_at lw_m6 112 rfl) rfl
theorem q1411 : (Jvm.Cond.code ({ cls := "LastSpeakersModel", name := "canAsk", desc := "(II)Z" } : Jvm.MethodName) prog_11_method_41_code (3 : Nat) (Option.some Jvm.ClassFile.FieldType.boolean)) ∈ lw_all := lw_g (lw_at lw_m6 113 rfl) rfl
theorem q1413 : (Jvm.Cond.instanceMethod ({ cls := "LastSpeakersModel", name := "ask", desc := "(II)I" } : Jvm.MethodName)) ∈ lw_all := lw_g (lw_at lw_m6 115 rfl) rfl
theorem q1414 : (Jvm.Cond.selects "LastSpeakersModel" ({ cls := "LastSpeakersModel", name := "ask", desc := "(II)I" } : Jvm.MethodName) ({ cls := "LastSpeakersModel", name := "ask", desc := "(II)I" } : Jvm.MethodName)) ∈ lw_all := lw_g (lw_at lw_m6 116 rfl) rfl
theorem q1415 : (Jvm.Cond.code ({ cls := "LastSpeakersModel", name := "ask", desc := "(II)I" } : Jvm.MethodName) prog_11_method_44_code (7 : Nat) (Option.some Jvm.ClassFile.FieldType.int)) ∈ lw_all := lw_g (lw_at lw_m6 117 rfl) rfl
theorem q1416 : (Jvm.Cond.methodLink "LastSpeakersModel" (336 : Nat) ({ cls := "LastSpeakersModel", name := "draws", desc := "(I)I" } : Jvm.MethodName)) ∈ lw_all := lw_g (lw_at lw_m6 118 rfl) rfl
theorem q1417 : (Jvm.Cond.privateMethod ({ cls := "LastSpeakersModel", name := "draws", desc := "(I)I" } : Jvm.MethodName)) ∈ lw_tbl := lw_at lw_m6 119 rfl
theorem q1418 : (Jvm.Cond.instanceMethod ({ cls := "LastSpeakersModel", name := "draws", desc := "(I)I" } : Jvm.MethodName)) ∈ lw_all := lw_g (lw_at lw_m6 120 rfl) rfl
theorem q1419 : (Jvm.Cond.code ({ cls := "LastSpeakersModel", name := "draws", desc := "(I)I" } : Jvm.MethodName) prog_11_method_40_code (2 : Nat) (Option.some Jvm.ClassFile.FieldType.int)) ∈ lw_all := lw_g (lw_at lw_m6 121 rfl) rfl
theorem q1420 : (Jvm.Cond.constantLong "LastSpeakersModel" (325 : Nat) (1103515245 : Int64)) ∈ lw_all := lw_g (lw_at lw_m6 122 rfl) rfl
theorem q1421 : (Jvm.Cond.constantLong "LastSpeakersModel" (327 : Nat) (12345 : Int64)) ∈ lw_all := lw_g (lw_at lw_m6 123 rfl) rfl
theorem q1422 : (Jvm.Cond.constantLong "LastSpeakersModel" (329 : Nat) (2147483647 : Int64)) ∈ lw_all := lw_g (lw_at lw_m6 124 rfl) rfl
theorem q1423 : (Jvm.Cond.constantLong "LastSpeakersModel" (331 : Nat) (256 : Int64)) ∈ lw_all := lw_g (lw_at lw_m6 125 rfl) rfl
theorem q1424 : (Jvm.Cond.methodLink "LastSpeakersModel" (339 : Nat) ({ cls := "LastSpeakersModel", name := "worths", desc := "(I)I" } : Jvm.MethodName)) ∈ lw_all := lw_g (lw_at lw_m6 126 rfl) rfl
theorem q1425 : (Jvm.Cond.privateMethod ({ cls := "LastSpeakersModel", name := "worths", desc := "(I)I" } : Jvm.MethodName)) ∈ lw_tbl := lw_at lw_m6 127 rfl
theorem q1426 : (Jvm.Cond.instanceMethod ({ cls := "LastSpeakersModel", name := "worths", desc := "(I)I" } : Jvm.MethodName)) ∈ lw_all := lw_g (lw_at lw_m6 128 rfl) rfl
theorem q1427 : (Jvm.Cond.code ({ cls := "LastSpeakersModel", name := "worths", desc := "(I)I" } : Jvm.MethodName) prog_11_method_30_code (4 : Nat) (Option.some Jvm.ClassFile.FieldType.int)) ∈ lw_all := lw_g (lw_at lw_m6 129 rfl) rfl
theorem q1428 : (Jvm.Cond.methodLink "LastSpeakersModel" (342 : Nat) ({ cls := "LastSpeakersModel", name := "passes", desc := "(I)V" } : Jvm.MethodName)) ∈ lw_all := lw_g (lw_at lw_m6 130 rfl) rfl
theorem q1429 : (Jvm.Cond.privateMethod ({ cls := "LastSpeakersModel", name := "passes", desc := "(I)V" } : Jvm.MethodName)) ∈ lw_tbl := lw_at lw_m6 131 rfl
theorem q1430 : (Jvm.Cond.instanceMethod ({ cls := "LastSpeakersModel", name := "passes", desc := "(I)V" } : Jvm.MethodName)) ∈ lw_all := lw_g (lw_at lw_m6 132 rfl) rfl
theorem q1431 : (Jvm.Cond.code ({ cls := "LastSpeakersModel", name := "passes", desc := "(I)V" } : Jvm.MethodName) prog_11_method_43_code (4 : Nat) (Option.none : Option Jvm.ClassFile.FieldType)) ∈ lw_all := lw_g (lw_at lw_m6 133 rfl) rfl
theorem q1433 : (Jvm.Cond.instanceMethod ({ cls := "LastSpeakersModel", name := "rest", desc := "(I)I" } : Jvm.MethodName)) ∈ lw_all := lw_g (lw_at lw_m6 135 rfl) rfl
theorem q1434 : (Jvm.Cond.selects "LastSpeakersModel" ({ cls := "LastSpeakersModel", name := "rest", desc := "(I)I" } : Jvm.MethodName) ({ cls := "LastSpeakersModel", name := "rest", desc := "(I)I" } : Jvm.MethodName)) ∈ lw_all := lw_g (lw_at lw_m6 136 rfl) rfl
theorem q1435 : (Jvm.Cond.code ({ cls := "LastSpeakersModel", name := "rest", desc := "(I)I" } : Jvm.MethodName) prog_11_method_45_code (2 : Nat) (Option.some Jvm.ClassFile.FieldType.int)) ∈ lw_all := lw_g (lw_at lw_m6 137 rfl) rfl
theorem q1437 : (Jvm.Cond.instanceMethod ({ cls := "LastSpeakersModel", name := "log", desc := "(II)I" } : Jvm.MethodName)) ∈ lw_all := lw_g (lw_at lw_m6 139 rfl) rfl
theorem q1438 : (Jvm.Cond.selects "LastSpeakersModel" ({ cls := "LastSpeakersModel", name := "log", desc := "(II)I" } : Jvm.MethodName) ({ cls := "LastSpeakersModel", name := "log", desc := "(II)I" } : Jvm.MethodName)) ∈ lw_all := lw_g (lw_at lw_m6 140 rfl) rfl
theorem q1439 : (Jvm.Cond.code ({ cls := "LastSpeakersModel", name := "log", desc := "(II)I" } : Jvm.MethodName) prog_11_method_46_code (3 : Nat) (Option.some Jvm.ClassFile.FieldType.int)) ∈ lw_all := lw_g (lw_at lw_m6 141 rfl) rfl
theorem q1441 : (Jvm.Cond.instanceMethod ({ cls := "LastSpeakersModel", name := "best", desc := "(II)I" } : Jvm.MethodName)) ∈ lw_all := lw_g (lw_at lw_m6 143 rfl) rfl
theorem q1442 : (Jvm.Cond.selects "LastSpeakersModel" ({ cls := "LastSpeakersModel", name := "best", desc := "(II)I" } : Jvm.MethodName) ({ cls := "LastSpeakersModel", name := "best", desc := "(II)I" } : Jvm.MethodName)) ∈ lw_all := lw_g (lw_at lw_m6 144 rfl) rfl
theorem q1443 : (Jvm.Cond.code ({ cls := "LastSpeakersModel", name := "best", desc := "(II)I" } : Jvm.MethodName) prog_11_method_53_code (4 : Nat) (Option.some Jvm.ClassFile.FieldType.int)) ∈ lw_all := lw_g (lw_at lw_m6 145 rfl) rfl
theorem q1444 : (Jvm.Cond.methodLink "LastSpeakersModel" (355 : Nat) ({ cls := "LastSpeakersModel", name := "isSureTime", desc := "(I)Z" } : Jvm.MethodName)) ∈ lw_all := lw_g (lw_at lw_m6 146 rfl) rfl
theorem q1445 : (Jvm.Cond.privateMethod ({ cls := "LastSpeakersModel", name := "isSureTime", desc := "(I)Z" } : Jvm.MethodName)) ∈ lw_tbl := lw_at lw_m6 147 rfl
theorem q1446 : (Jvm.Cond.instanceMethod ({ cls := "LastSpeakersModel", name := "isSureTime", desc := "(I)Z" } : Jvm.MethodName)) ∈ lw_all := lw_g (lw_at lw_m6 148 rfl) rfl
theorem q1447 : (Jvm.Cond.code ({ cls := "LastSpeakersModel", name := "isSureTime", desc := "(I)Z" } : Jvm.MethodName) prog_11_method_52_code (2 : Nat) (Option.some Jvm.ClassFile.FieldType.boolean)) ∈ lw_all := lw_g (lw_at lw_m6 149 rfl) rfl
theorem q1448 : (Jvm.Cond.methodLink "LastSpeakersModel" (358 : Nat) ({ cls := "LastSpeakersModel", name := "finds", desc := "(I)V" } : Jvm.MethodName)) ∈ lw_all := lw_g (lw_at lw_m6 150 rfl) rfl
theorem q1449 : (Jvm.Cond.privateMethod ({ cls := "LastSpeakersModel", name := "finds", desc := "(I)V" } : Jvm.MethodName)) ∈ lw_tbl := lw_at lw_m6 151 rfl
theorem q1450 : (Jvm.Cond.instanceMethod ({ cls := "LastSpeakersModel", name := "finds", desc := "(I)V" } : Jvm.MethodName)) ∈ lw_all := lw_g (lw_at lw_m6 152 rfl) rfl
theorem q1451 : (Jvm.Cond.code ({ cls := "LastSpeakersModel", name := "finds", desc := "(I)V" } : Jvm.MethodName) prog_11_method_49_code (5 : Nat) (Option.none : Option Jvm.ClassFile.FieldType)) ∈ lw_all := lw_g (lw_at lw_m6 153 rfl) rfl
theorem q1452 : (Jvm.Cond.methodLink "LastSpeakersModel" (349 : Nat) ({ cls := "LastSpeakersModel", name := "goesOn", desc := "(II)Z" } : Jvm.MethodName)) ∈ lw_all := lw_g (lw_at lw_m6 154 rfl) rfl
theorem q1453 : (Jvm.Cond.privateMethod ({ cls := "LastSpeakersModel", name := "goesOn", desc := "(II)Z" } : Jvm.MethodName)) ∈ lw_tbl := lw_at lw_m6 155 rfl
theorem q1454 : (Jvm.Cond.instanceMethod ({ cls := "LastSpeakersModel", name := "goesOn", desc := "(II)Z" } : Jvm.MethodName)) ∈ lw_all := lw_g (lw_at lw_m6 156 rfl) rfl
theorem q1455 : (Jvm.Cond.code ({ cls := "LastSpeakersModel", name := "goesOn", desc := "(II)Z" } : Jvm.MethodName) prog_11_method_48_code (3 : Nat) (Option.some Jvm.ClassFile.FieldType.boolean)) ∈ lw_all := lw_g (lw_at lw_m6 157 rfl) rfl
theorem q1456 : (Jvm.Cond.methodLink "LastSpeakersModel" (346 : Nat) ({ cls := "LastSpeakersModel", name := "somebodyKnows", desc := "(I)Z" } : Jvm.MethodName)) ∈ lw_all := lw_g (lw_at lw_m6 158 rfl) rfl
theorem q1457 : (Jvm.Cond.privateMethod ({ cls := "LastSpeakersModel", name := "somebodyKnows", desc := "(I)Z" } : Jvm.MethodName)) ∈ lw_tbl := lw_at lw_m6 159 rfl
theorem q1458 : (Jvm.Cond.instanceMethod ({ cls := "LastSpeakersModel", name := "somebodyKnows", desc := "(I)Z" } : Jvm.MethodName)) ∈ lw_all := lw_g (lw_at lw_m6 160 rfl) rfl
theorem q1459 : (Jvm.Cond.code ({ cls := "LastSpeakersModel", name := "somebodyKnows", desc := "(I)Z" } : Jvm.MethodName) prog_11_method_47_code (3 : Nat) (Option.some Jvm.ClassFile.FieldType.boolean)) ∈ lw_all := lw_g (lw_at lw_m6 161 rfl) rfl
theorem q1460 : (Jvm.Cond.methodLink "LastSpeakersModel" (361 : Nat) ({ cls := "LastSpeakersModel", name := "bestHeap", desc := "(I)I" } : Jvm.MethodName)) ∈ lw_all := lw_g (lw_at lw_m6 162 rfl) rfl
theorem q1461 : (Jvm.Cond.privateMethod ({ cls := "LastSpeakersModel", name := "bestHeap", desc := "(I)I" } : Jvm.MethodName)) ∈ lw_tbl := lw_at lw_m6 163 rfl
theorem q1462 : (Jvm.Cond.instanceMethod ({ cls := "LastSpeakersModel", name := "bestHeap", desc := "(I)I" } : Jvm.MethodName)) ∈ lw_all := lw_g (lw_at lw_m6 164 rfl) rfl
theorem q1463 : (Jvm.Cond.code ({ cls := "LastSpeakersModel", name := "bestHeap", desc := "(I)I" } : Jvm.MethodName) prog_11_method_51_code (5 : Nat) (Option.some Jvm.ClassFile.FieldType.int)) ∈ lw_all := lw_g (lw_at lw_m6 165 rfl) rfl
theorem q1464 : (Jvm.Cond.methodLink "LastSpeakersModel" (352 : Nat) ({ cls := "LastSpeakersModel", name := "hoursOf", desc := "(I)I" } : Jvm.MethodName)) ∈ lw_all := lw_g (lw_at lw_m6 166 rfl) rfl
theorem q1465 : (Jvm.Cond.privateMethod ({ cls := "LastSpeakersModel", name := "hoursOf", desc := "(I)I" } : Jvm.MethodName)) ∈ lw_tbl := lw_at lw_m6 167 rfl
theorem q1466 : (Jvm.Cond.instanceMethod ({ cls := "LastSpeakersModel", name := "hoursOf", desc := "(I)I" } : Jvm.MethodName)) ∈ lw_all := lw_g (lw_at lw_m6 168 rfl) rfl
theorem q1467 : (Jvm.Cond.code ({ cls := "LastSpeakersModel", name := "hoursOf", desc := "(I)I" } : Jvm.MethodName) prog_11_method_50_code (4 : Nat) (Option.some Jvm.ClassFile.FieldType.int)) ∈ lw_all := lw_g (lw_at lw_m6 169 rfl) rfl
theorem q1469 : (Jvm.Cond.instanceMethod ({ cls := "LastSpeakersModel", name := "order", desc := "(II)I" } : Jvm.MethodName)) ∈ lw_all := lw_g (lw_at lw_m6 171 rfl) rfl
theorem q1470 : (Jvm.Cond.selects "LastSpeakersModel" ({ cls := "LastSpeakersModel", name := "order", desc := "(II)I" } : Jvm.MethodName) ({ cls := "LastSpeakersModel", name := "order", desc := "(II)I" } : Jvm.MethodName)) ∈ lw_all := lw_g (lw_at lw_m6 172 rfl) rfl
theorem q1471 : (Jvm.Cond.code ({ cls := "LastSpeakersModel", name := "order", desc := "(II)I" } : Jvm.MethodName) prog_11_method_54_code (7 : Nat) (Option.some Jvm.ClassFile.FieldType.int)) ∈ lw_all := lw_g (lw_at lw_m6 173 rfl) rfl
theorem q1473 : (Jvm.Cond.instanceMethod ({ cls := "LastSpeakersModel", name := "value", desc := "(I)I" } : Jvm.MethodName)) ∈ lw_all := lw_g (lw_at lw_m6 175 rfl) rfl
theorem q1474 : (Jvm.Cond.selects "LastSpeakersModel" ({ cls := "LastSpeakersModel", name := "value", desc := "(I)I" } : Jvm.MethodName) ({ cls := "LastSpeakersModel", name := "value", desc := "(I)I" } : Jvm.MethodName)) ∈ lw_all := lw_g (lw_at lw_m6 176 rfl) rfl
theorem q1475 : (Jvm.Cond.code ({ cls := "LastSpeakersModel", name := "value", desc := "(I)I" } : Jvm.MethodName) prog_11_method_60_code (2 : Nat) (Option.some Jvm.ClassFile.FieldType.int)) ∈ lw_all := lw_g (lw_at lw_m6 177 rfl) rfl
theorem q1476 : (Jvm.Cond.methodLink "LastSpeakersModel" (381 : Nat) ({ cls := "LastSpeakersModel", name := "isMeanTime", desc := "(I)Z" } : Jvm.MethodName)) ∈ lw_all := lw_g (lw_at lw_m6 178 rfl) rfl
theorem q1477 : (Jvm.Cond.privateMethod ({ cls := "LastSpeakersModel", name := "isMeanTime", desc := "(I)Z" } : Jvm.MethodName)) ∈ lw_tbl := lw_at lw_m6 179 rfl
theorem q1478 : (Jvm.Cond.instanceMethod ({ cls := "LastSpeakersModel", name := "isMeanTime", desc := "(I)Z" } : Jvm.MethodName)) ∈ lw_all := lw_g (lw_at lw_m6 180 rfl) rfl
theorem q1479 : (Jvm.Cond.code ({ cls := "LastSpeakersModel", name := "isMeanTime", desc := "(I)Z" } : Jvm.MethodName) prog_11_method_59_code (2 : Nat) (Option.some Jvm.ClassFile.FieldType.boolean)) ∈ lw_all := lw_g (lw_at lw_m6 181 rfl) rfl
theorem q1480 : (Jvm.Cond.methodLink "LastSpeakersModel" (384 : Nat) ({ cls := "LastSpeakersModel", name := "worksMean", desc := "(I)V" } : Jvm.MethodName)) ∈ lw_all := lw_g (lw_at lw_m6 182 rfl) rfl
theorem q1481 : (Jvm.Cond.privateMethod ({ cls := "LastSpeakersModel", name := "worksMean", desc := "(I)V" } : Jvm.MethodName)) ∈ lw_tbl := lw_at lw_m6 183 rfl
theorem q1482 : (Jvm.Cond.instanceMethod ({ cls := "LastSpeakersModel", name := "worksMean", desc := "(I)V" } : Jvm.MethodName)) ∈ lw_all := lw_g (lw_at lw_m6 184 rfl) rfl
theorem q1483 : (Jvm.Cond.code ({ cls := "LastSpeakersModel", name := "worksMean", desc := "(I)V" } : Jvm.MethodName) prog_11_method_58_code (8 : Nat) (Option.none : Option Jvm.ClassFile.FieldType)) ∈ lw_all := lw_g (lw_at lw_m6 185 rfl) rfl
theorem q1484 : (Jvm.Cond.methodLink "LastSpeakersModel" (372 : Nat) ({ cls := "LastSpeakersModel", name := "worthOf", desc := "(IIIII)I" } : Jvm.MethodName)) ∈ lw_all := lw_g (lw_at lw_m6 186 rfl) rfl
theorem q1485 : (Jvm.Cond.privateMethod ({ cls := "LastSpeakersModel", name := "worthOf", desc := "(IIIII)I" } : Jvm.MethodName)) ∈ lw_tbl := lw_at lw_m6 187 rfl
theorem q1486 : (Jvm.Cond.instanceMethod ({ cls := "LastSpeakersModel", name := "worthOf", desc := "(IIIII)I" } : Jvm.MethodName)) ∈ lw_all := lw_g (lw_at lw_m6 188 rfl) rfl
theorem q1487 : (Jvm.Cond.code ({ cls := "LastSpeakersModel", name := "worthOf", desc := "(IIIII)I" } : Jvm.MethodName) prog_11_method_57_code (8 : Nat) (Option.some Jvm.ClassFile.FieldType.int)) ∈ lw_all := lw_g (lw_at lw_m6 189 rfl) rfl
theorem q1488 : (Jvm.Cond.methodLink "LastSpeakersModel" (368 : Nat) ({ cls := "LastSpeakersModel", name := "behind", desc := "(IIII)I" } : Jvm.MethodName)) ∈ lw_all := lw_g (lw_at lw_m6 190 rfl) rfl
theorem q1489 : (Jvm.Cond.privateMethod ({ cls := "LastSpeakersModel", name := "behind", desc := "(IIII)I" } : Jvm.MethodName)) ∈ lw_tbl := lw_at lw_m6 191 rfl
theorem q1490 : (Jvm.Cond.instanceMethod ({ cls := "LastSpeakersModel", name := "behind", desc := "(IIII)I" } : Jvm.MethodName)) ∈ lw_all := lw_g (lw_at lw_m6 192 rfl) rfl
theorem q1491 : (Jvm.Cond.code ({ cls := "LastSpeakersModel", name := "behind", desc := "(IIII)I" } : Jvm.MethodName) prog_11_method_56_code (12 : Nat) (Option.some Jvm.ClassFile.FieldType.int)) ∈ lw_all := lw_g (lw_at lw_m6 193 rfl) rfl
theorem q1492 : (Jvm.Cond.methodLink "LastSpeakersModel" (364 : Nat) ({ cls := "LastSpeakersModel", name := "meanAt", desc := "(III)I" } : Jvm.MethodName)) ∈ lw_all := lw_g (lw_at lw_m6 194 rfl) rfl
theorem q1493 : (Jvm.Cond.privateMethod ({ cls := "LastSpeakersModel", name := "meanAt", desc := "(III)I" } : Jvm.MethodName)) ∈ lw_tbl := lw_at lw_m6 195 rfl
theorem q1494 : (Jvm.Cond.instanceMethod ({ cls := "LastSpeakersModel", name := "meanAt", desc := "(III)I" } : Jvm.MethodName)) ∈ lw_all := lw_g (lw_at lw_m6 196 rfl) rfl
theorem q1495 : (Jvm.Cond.code ({ cls := "LastSpeakersModel", name := "meanAt", desc := "(III)I" } : Jvm.MethodName) prog_11_method_55_code (4 : Nat) (Option.some Jvm.ClassFile.FieldType.int)) ∈ lw_all := lw_g (lw_at lw_m6 197 rfl) rfl
theorem q1496 : (Jvm.Cond.methodLink "LastSpeakersModel" (376 : Nat) ({ cls := "java/lang/Math", name := "max", desc := "(II)I" } : Jvm.MethodName)) ∈ lw_all := lw_g (lw_at lw_m6 198 rfl) rfl
theorem q1498 : (Jvm.Cond.instanceMethod ({ cls := "LastSpeakersModel", name := "next", desc := "(I)I" } : Jvm.MethodName)) ∈ lw_all := lw_g (lw_at lw_m6 200 rfl) rfl
theorem q1499 : (Jvm.Cond.selects "LastSpeakersModel" ({ cls := "LastSpeakersModel", name := "next", desc := "(I)I" } : Jvm.MethodName) ({ cls := "LastSpeakersModel", name := "next", desc := "(I)I" } : Jvm.MethodName)) ∈ lw_all := lw_g (lw_at lw_m6 201 rfl) rfl
theorem q1500 : (Jvm.Cond.code ({ cls := "LastSpeakersModel", name := "next", desc := "(I)I" } : Jvm.MethodName) prog_11_method_61_code (7 : Nat) (Option.some Jvm.ClassFile.FieldType.int)) ∈ lw_all := lw_g (lw_at lw_m6 202 rfl) rfl
theorem q1502 : (Jvm.Cond.instanceMethod ({ cls := "LastSpeakersModel", name := "plan", desc := "(II)I" } : Jvm.MethodName)) ∈ lw_all := lw_g (lw_at lw_m6 204 rfl) rfl
theorem q1503 : (Jvm.Cond.selects "LastSpeakersModel" ({ cls := "LastSpeakersModel", name := "plan", desc := "(II)I" } : Jvm.MethodName) ({ cls := "LastSpeakersModel", name := "plan", desc := "(II)I" } : Jvm.MethodName)) ∈ lw_all := lw_g (lw_at lw_m6 205 rfl) rfl
theorem q1504 : (Jvm.Cond.code ({ cls := "LastSpeakersModel", name := "plan", desc := "(II)I" } : Jvm.MethodName) prog_11_method_62_code (3 : Nat) (Option.some Jvm.ClassFile.FieldType.int)) ∈ lw_all := lw_g (lw_at lw_m6 206 rfl) rfl
theorem q1506 : (Jvm.Cond.instanceMethod ({ cls := "LastSpeakersModel", name := "clear", desc := "()I" } : Jvm.MethodName)) ∈ lw_all := lw_g (lw_at lw_m6 208 rfl) rfl
theorem q1507 : (Jvm.Cond.selects "LastSpeakersModel" ({ cls := "LastSpeakersModel", name := "clear", desc := "()I" } : Jvm.MethodName) ({ cls := "LastSpeakersModel", name := "clear", desc := "()I" } : Jvm.MethodName)) ∈ lw_all := lw_g (lw_at lw_m6 209 rfl) rfl
theorem q1508 : (Jvm.Cond.code ({ cls := "LastSpeakersModel", name := "clear", desc := "()I" } : Jvm.MethodName) prog_11_method_63_code (2 : Nat) (Option.some Jvm.ClassFile.FieldType.int)) ∈ lw_all := lw_g (lw_at lw_m6 210 rfl) rfl
theorem q1510 : (Jvm.Cond.instanceMethod ({ cls := "LastSpeakersModel", name := "judge", desc := "(I)I" } : Jvm.MethodName)) ∈ lw_all := lw_g (lw_at lw_m6 212 rfl) rfl
theorem q1511 : (Jvm.Cond.selects "LastSpeakersModel" ({ cls := "LastSpeakersModel", name := "judge", desc := "(I)I" } : Jvm.MethodName) ({ cls := "LastSpeakersModel", name := "judge", desc := "(I)I" } : Jvm.MethodName)) ∈ lw_all := lw_g (lw_at lw_m6 213 rfl) rfl
theorem q1512 : (Jvm.Cond.code ({ cls := "LastSpeakersModel", name := "judge", desc := "(I)I" } : Jvm.MethodName) prog_11_method_66_code (2 : Nat) (Option.some Jvm.ClassFile.FieldType.int)) ∈ lw_all := lw_g (lw_at lw_m6 214 rfl) rfl
theorem q1513 : (Jvm.Cond.methodLink "LastSpeakersModel" (391 : Nat) ({ cls := "LastSpeakersModel", name := "meanOfRow", desc := "()I" } : Jvm.MethodName)) ∈ lw_all := lw_g (lw_at lw_m6 215 rfl) rfl
theorem q1514 : (Jvm.Cond.privateMethod ({ cls := "LastSpeakersModel", name := "meanOfRow", desc := "()I" } : Jvm.MethodName)) ∈ lw_tbl := lw_at lw_m6 216 rfl
theorem q1515 : (Jvm.Cond.instanceMethod ({ cls := "LastSpeakersModel", name := "meanOfRow", desc := "()I" } : Jvm.MethodName)) ∈ lw_all := lw_g (lw_at lw_m6 217 rfl) rfl
theorem q1516 : (Jvm.Cond.code ({ cls := "LastSpeakersModel", name := "meanOfRow", desc := "()I" } : Jvm.MethodName) prog_11_method_64_code (9 : Nat) (Option.some Jvm.ClassFile.FieldType.int)) ∈ lw_all := lw_g (lw_at lw_m6 218 rfl) rfl
theorem q1517 : (Jvm.Cond.constantLong "LastSpeakersModel" (387 : Nat) (16 : Int64)) ∈ lw_all := lw_g (lw_at lw_m6 219 rfl) rfl
theorem q1518 : (Jvm.Cond.constantLong "LastSpeakersModel" (389 : Nat) (1000 : Int64)) ∈ lw_all := lw_g (lw_at lw_m6 220 rfl) rfl
theorem q1519 : (Jvm.Cond.methodLink "LastSpeakersModel" (394 : Nat) ({ cls := "LastSpeakersModel", name := "barred", desc := "()I" } : Jvm.MethodName)) ∈ lw_all := lw_g (lw_at lw_m6 221 rfl) rfl
theorem q1520 : (Jvm.Cond.privateMethod ({ cls := "LastSpeakersModel", name := "barred", desc := "()I" } : Jvm.MethodName)) ∈ lw_tbl := lw_at lw_m6 222 rfl
theorem q1521 : (Jvm.Cond.instanceMethod ({ cls := "LastSpeakersModel", name := "barred", desc := "()I" } : Jvm.MethodName)) ∈ lw_all := lw_g (lw_at lw_m6 223 rfl) rfl
theorem q1522 : (Jvm.Cond.code ({ cls := "LastSpeakersModel", name := "barred", desc := "()I" } : Jvm.MethodName) prog_11_method_65_code (5 : Nat) (Option.some Jvm.ClassFile.FieldType.int)) ∈ lw_all := lw_g (lw_at lw_m6 224 rfl) rfl
theorem q1524 : (Jvm.Cond.instanceMethod ({ cls := "LastSpeakersModel", name := "hear", desc := "(IIII)I" } : Jvm.MethodName)) ∈ lw_all := lw_g (lw_at lw_m6 226 rfl) rfl
theorem q1525 : (Jvm.Cond.selects "LastSpeakersModel" ({ cls := "LastSpeakersModel", name := "hear", desc := "(IIII)I" } : Jvm.MethodName) ({ cls := "LastSpeakersModel", name := "hear", desc := "(IIII)I" } : Jvm.MethodName)) ∈ lw_all := lw_g (lw_at lw_m6 227 rfl) rfl
theorem q1526 : (Jvm.Cond.code ({ cls := "LastSpeakersModel", name := "hear", desc := "(IIII)I" } : Jvm.MethodName) prog_11_method_67_code (5 : Nat) (Option.some Jvm.ClassFile.FieldType.int)) ∈ lw_all := lw_g (lw_at lw_m6 228 rfl) rfl
theorem q1528 : (Jvm.Cond.instanceMethod ({ cls := "LastSpeakersModel", name := "unhear", desc := "()I" } : Jvm.MethodName)) ∈ lw_all := lw_g (lw_at lw_m6 230 rfl) rfl
theorem q1529 : (Jvm.Cond.selects "LastSpeakersModel" ({ cls := "LastSpeakersModel", name := "unhear", desc := "()I" } : Jvm.MethodName) ({ cls := "LastSpeakersModel", name := "unhear", desc := "()I" } : Jvm.MethodName)) ∈ lw_all := lw_g (lw_at lw_m6 231 rfl) rfl
theorem q1530 : (Jvm.Cond.code ({ cls := "LastSpeakersModel", name := "unhear", desc := "()I" } : Jvm.MethodName) prog_11_method_68_code (1 : Nat) (Option.some Jvm.ClassFile.FieldType.int)) ∈ lw_all := lw_g (lw_at lw_m6 232 rfl) rfl
theorem q1532 : (Jvm.Cond.instanceMethod ({ cls := "LastSpeakersModel", name := "book", desc := "(IIIZ)Z" } : Jvm.MethodName)) ∈ lw_all := lw_g (lw_at lw_m6 234 rfl) rfl
theorem q1533 : (Jvm.Cond.selects "LastSpeakersModel" ({ cls := "LastSpeakersModel", name := "book", desc := "(IIIZ)Z" } : Jvm.MethodName) ({ cls := "LastSpeakersModel", name := "book", desc := "(IIIZ)Z" } : Jvm.MethodName)) ∈ lw_all := lw_g (lw_at lw_m6 235 rfl) rfl
theorem q1534 : (Jvm.Cond.code ({ cls := "LastSpeakersModel", name := "book", desc := "(IIIZ)Z" } : Jvm.MethodName) prog_11_method_69_code (6 : Nat) (Option.some Jvm.ClassFile.FieldType.boolean)) ∈ lw_all := lw_g (lw_at lw_m6 236 rfl) rfl
theorem q1536 : (Jvm.Cond.instanceMethod ({ cls := "LastSpeakersModel", name := "version", desc := "(II)I" } : Jvm.MethodName)) ∈ lw_all := lw_g (lw_at lw_m6 238 rfl) rfl
theorem q1537 : (Jvm.Cond.selects "LastSpeakersModel" ({ cls := "LastSpeakersModel", name := "version", desc := "(II)I" } : Jvm.MethodName) ({ cls := "LastSpeakersModel", name := "version", desc := "(II)I" } : Jvm.MethodName)) ∈ lw_all := lw_g (lw_at lw_m6 239 rfl) rfl
theorem q1538 : (Jvm.Cond.code ({ cls := "LastSpeakersModel", name := "version", desc := "(II)I" } : Jvm.MethodName) prog_11_method_73_code (3 : Nat) (Option.some Jvm.ClassFile.FieldType.int)) ∈ lw_all := lw_g (lw_at lw_m7 0 rfl) rfl
theorem q1539 : (Jvm.Cond.methodLink "LastSpeakersModel" (400 : Nat) ({ cls := "LastSpeakersModel", name := "sureOf", desc := "(I)I" } : Jvm.MethodName)) ∈ lw_all := lw_g (lw_at lw_m7 1 rfl) rfl
theorem q1540 : (Jvm.Cond.privateMethod ({ cls := "LastSpeakersModel", name := "sureOf", desc := "(I)I" } : Jvm.MethodName)) ∈ lw_tbl := lw_at lw_m7 2 rfl
theorem q1541 : (Jvm.Cond.instanceMethod ({ cls := "LastSpeakersModel", name := "sureOf", desc := "(I)I" } : Jvm.MethodName)) ∈ lw_all := lw_g (lw_at lw_m7 3 rfl) rfl
theorem q1542 : (Jvm.Cond.code ({ cls := "LastSpeakersModel", name := "sureOf", desc := "(I)I" } : Jvm.MethodName) prog_11_method_71_code (5 : Nat) (Option.some Jvm.ClassFile.FieldType.int)) ∈ lw_all := lw_g (lw_at lw_m7 4 rfl) rfl
theorem q1543 : (Jvm.Cond.methodLink "LastSpeakersModel" (397 : Nat) ({ cls := "LastSpeakersModel", name := "weightOf", desc := "(II)I" } : Jvm.MethodName)) ∈ lw_all := lw_g (lw_at lw_m7 5 rfl) rfl
theorem q1544 : (Jvm.Cond.privateMethod ({ cls := "LastSpeakersModel", name := "weightOf", desc := "(II)I" } : Jvm.MethodName)) ∈ lw_tbl := lw_at lw_m7 6 rfl
theorem q1545 : (Jvm.Cond.instanceMethod ({ cls := "LastSpeakersModel", name := "weightOf", desc := "(II)I" } : Jvm.MethodName)) ∈ lw_all := lw_g (lw_at lw_m7 7 rfl) rfl
theorem q1546 : (Jvm.Cond.code ({ cls := "LastSpeakersModel", name := "weightOf", desc := "(II)I" } : Jvm.MethodName) prog_11_method_70_code (8 : Nat) (Option.some Jvm.ClassFile.FieldType.int)) ∈ lw_all := lw_g (lw_at lw_m7 8 rfl) rfl
theorem q1547 : (Jvm.Cond.methodLink "LastSpeakersModel" (403 : Nat) ({ cls := "LastSpeakersModel", name := "fillOf", desc := "(I)I" } : Jvm.MethodName)) ∈ lw_all := lw_g (lw_at lw_m7 9 rfl) rfl
theorem q1548 : (Jvm.Cond.privateMethod ({ cls := "LastSpeakersModel", name := "fillOf", desc := "(I)I" } : Jvm.MethodName)) ∈ lw_tbl := lw_at lw_m7 10 rfl
theorem q1549 : (Jvm.Cond.instanceMethod ({ cls := "LastSpeakersModel", name := "fillOf", desc := "(I)I" } : Jvm.MethodName)) ∈ lw_all := lw_g (lw_at lw_m7 11 rfl) rfl
theorem q1550 : (Jvm.Cond.code ({ cls := "LastSpeakersModel", name := "fillOf", desc := "(I)I" } : Jvm.MethodName) prog_11_method_72_code (7 : Nat) (Option.some Jvm.ClassFile.FieldType.int)) ∈ lw_all := lw_g (lw_at lw_m7 12 rfl) rfl
theorem q1552 : (Jvm.Cond.instanceMethod ({ cls := "LastSpeakersModel", name := "again", desc := "(I)I" } : Jvm.MethodName)) ∈ lw_all := lw_g (lw_at lw_m7 14 rfl) rfl
theorem q1553 : (Jvm.Cond.selects "LastSpeakersModel" ({ cls := "LastSpeakersModel", name := "again", desc := "(I)I" } : Jvm.MethodName) ({ cls := "LastSpeakersModel", name := "again", desc := "(I)I" } : Jvm.MethodName)) ∈ lw_all := lw_g (lw_at lw_m7 15 rfl) rfl
theorem q1554 : (Jvm.Cond.code ({ cls := "LastSpeakersModel", name := "again", desc := "(I)I" } : Jvm.MethodName) prog_11_method_75_code (5 : Nat) (Option.some Jvm.ClassFile.FieldType.int)) ∈ lw_all := lw_g (lw_at lw_m7 16 rfl) rfl
theorem q1555 : (Jvm.Cond.methodLink "LastSpeakersModel" (406 : Nat) ({ cls := "LastSpeakersModel", name := "heardOf", desc := "(II)I" } : Jvm.MethodName)) ∈ lw_all := lw_g (lw_at lw_m7 17 rfl) rfl
theorem q1556 : (Jvm.Cond.privateMethod ({ cls := "LastSpeakersModel", name := "heardOf", desc := "(II)I" } : Jvm.MethodName)) ∈ lw_tbl := lw_at lw_m7 18 rfl
theorem q1557 : (Jvm.Cond.instanceMethod ({ cls := "LastSpeakersModel", name := "heardOf", desc := "(II)I" } : Jvm.MethodName)) ∈ lw_all := lw_g (lw_at lw_m7 19 rfl) rfl
theorem q1558 : (Jvm.Cond.code ({ cls := "LastSpeakersModel", name := "heardOf", desc := "(II)I" } : Jvm.MethodName) prog_11_method_74_code (5 : Nat) (Option.some Jvm.ClassFile.FieldType.int)) ∈ lw_all := lw_g (lw_at lw_m7 20 rfl) rfl
theorem q1560 : (Jvm.Cond.instanceMethod ({ cls := "LastSpeakersModel", name := "pleasing", desc := "(I)I" } : Jvm.MethodName)) ∈ lw_all := lw_g (lw_at lw_m7 22 rfl) rfl
theorem q1561 : (Jvm.Cond.selects "LastSpeakersModel" ({ cls := "LastSpeakersModel", name := "pleasing", desc := "(I)I" } : Jvm.MethodName) ({ cls := "LastSpeakersModel", name := "pleasing", desc := "(I)I" } : Jvm.MethodName)) ∈ lw_all := lw_g (lw_at lw_m7 23 rfl) rfl
theorem q1562 : (Jvm.Cond.code ({ cls := "LastSpeakersModel", name := "pleasing", desc := "(I)I" } : Jvm.MethodName) prog_11_method_76_code (5 : Nat) (Option.some Jvm.ClassFile.FieldType.int)) ∈ lw_all := lw_g (lw_at lw_m7 24 rfl) rfl
theorem q1564 : (Jvm.Cond.instanceMethod ({ cls := "LastSpeakersModel", name := "right", desc := "(Z)I" } : Jvm.MethodName)) ∈ lw_all := lw_g (lw_at lw_m7 26 rfl) rfl
theorem q1565 : (Jvm.Cond.selects "LastSpeakersModel" ({ cls := "LastSpeakersModel", name := "right", desc := "(Z)I" } : Jvm.MethodName) ({ cls := "LastSpeakersModel", name := "right", desc := "(Z)I" } : Jvm.MethodName)) ∈ lw_all := lw_g (lw_at lw_m7 27 rfl) rfl
theorem q1566 : (Jvm.Cond.code ({ cls := "LastSpeakersModel", name := "right", desc := "(Z)I" } : Jvm.MethodName) prog_11_method_77_code (6 : Nat) (Option.some Jvm.ClassFile.FieldType.int)) ∈ lw_all := lw_g (lw_at lw_m7 28 rfl) rfl
theorem q1568 : (Jvm.Cond.instanceMethod ({ cls := "LastSpeakersModel", name := "lost", desc := "(I)I" } : Jvm.MethodName)) ∈ lw_all := lw_g (lw_at lw_m7 30 rfl) rfl
theorem q1569 : (Jvm.Cond.selects "LastSpeakersModel" ({ cls := "LastSpeakersModel", name := "lost", desc := "(I)I" } : Jvm.MethodName) ({ cls := "LastSpeakersModel", name := "lost", desc := "(I)I" } : Jvm.MethodName)) ∈ lw_all := lw_g (lw_at lw_m7 31 rfl) rfl
theorem q1570 : (Jvm.Cond.code ({ cls := "LastSpeakersModel", name := "lost", desc := "(I)I" } : Jvm.MethodName) prog_11_method_78_code (5 : Nat) (Option.some Jvm.ClassFile.FieldType.int)) ∈ lw_all := lw_g (lw_at lw_m7 32 rfl) rfl
theorem q1572 : (Jvm.Cond.instanceMethod ({ cls := "LastSpeakersModel", name := "most", desc := "()I" } : Jvm.MethodName)) ∈ lw_all := lw_g (lw_at lw_m7 34 rfl) rfl
theorem q1573 : (Jvm.Cond.selects "LastSpeakersModel" ({ cls := "LastSpeakersModel", name := "most", desc := "()I" } : Jvm.MethodName) ({ cls := "LastSpeakersModel", name := "most", desc := "()I" } : Jvm.MethodName)) ∈ lw_all := lw_g (lw_at lw_m7 35 rfl) rfl
theorem q1574 : (Jvm.Cond.code ({ cls := "LastSpeakersModel", name := "most", desc := "()I" } : Jvm.MethodName) prog_11_method_79_code (3 : Nat) (Option.some Jvm.ClassFile.FieldType.int)) ∈ lw_all := lw_g (lw_at lw_m7 36 rfl) rfl
theorem q1576 : (Jvm.Cond.instanceMethod ({ cls := "LastSpeakersModel", name := "key", desc := "(II)I" } : Jvm.MethodName)) ∈ lw_all := lw_g (lw_at lw_m7 38 rfl) rfl
theorem q1577 : (Jvm.Cond.selects "LastSpeakersModel" ({ cls := "LastSpeakersModel", name := "key", desc := "(II)I" } : Jvm.MethodName) ({ cls := "LastSpeakersModel", name := "key", desc := "(II)I" } : Jvm.MethodName)) ∈ lw_all := lw_g (lw_at lw_m7 39 rfl) rfl
theorem q1578 : (Jvm.Cond.code ({ cls := "LastSpeakersModel", name := "key", desc := "(II)I" } : Jvm.MethodName) prog_11_method_80_code (8 : Nat) (Option.some Jvm.ClassFile.FieldType.int)) ∈ lw_all := lw_g (lw_at lw_m7 40 rfl) rfl
theorem q1580 : (Jvm.Cond.instanceMethod ({ cls := "LastSpeakersModel", name := "image", desc := "(I)Z" } : Jvm.MethodName)) ∈ lw_all := lw_g (lw_at lw_m7 42 rfl) rfl
theorem q1581 : (Jvm.Cond.selects "LastSpeakersModel" ({ cls := "LastSpeakersModel", name := "image", desc := "(I)Z" } : Jvm.MethodName) ({ cls := "LastSpeakersModel", name := "image", desc := "(I)Z" } : Jvm.MethodName)) ∈ lw_all := lw_g (lw_at lw_m7 43 rfl) rfl
theorem q1582 : (Jvm.Cond.code ({ cls := "LastSpeakersModel", name := "image", desc := "(I)Z" } : Jvm.MethodName) prog_11_method_81_code (3 : Nat) (Option.some Jvm.ClassFile.FieldType.boolean)) ∈ lw_all := lw_g (lw_at lw_m7 44 rfl) rfl
theorem q1584 : (Jvm.Cond.instanceMethod ({ cls := "LastSpeakersModel", name := "on", desc := "(I)Z" } : Jvm.MethodName)) ∈ lw_all := lw_g (lw_at lw_m7 46 rfl) rfl
theorem q1585 : (Jvm.Cond.selects "LastSpeakersModel" ({ cls := "LastSpeakersModel", name := "on", desc := "(I)Z" } : Jvm.MethodName) ({ cls := "LastSpeakersModel", name := "on", desc := "(I)Z" } : Jvm.MethodName)) ∈ lw_all := lw_g (lw_at lw_m7 47 rfl) rfl
theorem q1586 : (Jvm.Cond.code ({ cls := "LastSpeakersModel", name := "on", desc := "(I)Z" } : Jvm.MethodName) prog_11_method_82_code (3 : Nat) (Option.some Jvm.ClassFile.FieldType.boolean)) ∈ lw_all := lw_g (lw_at lw_m7 48 rfl) rfl
theorem q1588 : (Jvm.Cond.instanceMethod ({ cls := "LastSpeakersModel", name := "count", desc := "(I)I" } : Jvm.MethodName)) ∈ lw_all := lw_g (lw_at lw_m7 50 rfl) rfl
theorem q1589 : (Jvm.Cond.selects "LastSpeakersModel" ({ cls := "LastSpeakersModel", name := "count", desc := "(I)I" } : Jvm.MethodName) ({ cls := "LastSpeakersModel", name := "count", desc := "(I)I" } : Jvm.MethodName)) ∈ lw_all := lw_g (lw_at lw_m7 51 rfl) rfl
theorem q1590 : (Jvm.Cond.code ({ cls := "LastSpeakersModel", name := "count", desc := "(I)I" } : Jvm.MethodName) prog_11_method_83_code (2 : Nat) (Option.some Jvm.ClassFile.FieldType.int)) ∈ lw_all := lw_g (lw_at lw_m7 52 rfl) rfl
theorem q1597 : (Jvm.Cond.castable "LastSpeakersModel" "java/lang/Object") ∈ lw_tbl := lw_at lw_m7 59 rfl
theorem q104 : (Jvm.Cond.initialized "LastSpeakers$Reader") ∈ lw_all := lw_g (lw_at lw_m1 6 rfl) rfl
theorem q143 : (Jvm.Cond.instantiable "LastSpeakers$Reader" (9 : Nat)) ∈ lw_all := lw_g (lw_at lw_m1 45 rfl) rfl
theorem q145 : (Jvm.Cond.instanceMethod ({ cls := "LastSpeakers$Reader", name := "<init>", desc := "([BI)V" } : Jvm.MethodName)) ∈ lw_all := lw_g (lw_at lw_m1 47 rfl) rfl
theorem q146 : (Jvm.Cond.code ({ cls := "LastSpeakers$Reader", name := "<init>", desc := "([BI)V" } : Jvm.MethodName) prog_7_method_1_code (3 : Nat) (Option.none : Option Jvm.ClassFile.FieldType)) ∈ lw_all := lw_g (lw_at lw_m1 48 rfl) rfl
theorem q147 : (Jvm.Cond.methodLink "LastSpeakers$Reader" (3 : Nat) ({ cls := "java/lang/Object", name := "<init>", desc := "()V" } : Jvm.MethodName)) ∈ lw_all := lw_g (lw_at lw_m1 49 rfl) rfl
theorem q150 : (Jvm.Cond.classLink "LastSpeakers$Reader" (9 : Nat) "java/lang/String") ∈ lw_all := lw_g (lw_at lw_m1 52 rfl) rfl
theorem q152 : (Jvm.Cond.stringRef "LastSpeakers$Reader" (11 : Nat) "thing") ∈ lw_tbl := lw_at lw_m1 54 rfl
theorem q153 : (Jvm.Cond.stringRef "LastSpeakers$Reader" (13 : Nat) "person") ∈ lw_tbl := lw_at lw_m1 55 rfl
theorem q154 : (Jvm.Cond.stringRef "LastSpeakers$Reader" (15 : Nat) "knows") ∈ lw_tbl := lw_at lw_m1 56 rfl
theorem q155 : (Jvm.Cond.stringRef "LastSpeakers$Reader" (17 : Nat) "lean") ∈ lw_tbl := lw_at lw_m1 57 rfl
theorem q156 : (Jvm.Cond.stringRef "LastSpeakers$Reader" (19 : Nat) "near") ∈ lw_tbl := lw_at lw_m1 58 rfl
theorem q157 : (Jvm.Cond.stringRef "LastSpeakers$Reader" (21 : Nat) "follow") ∈ lw_tbl := lw_at lw_m1 59 rfl
theorem q158 : (Jvm.Cond.stringRef "LastSpeakers$Reader" (23 : Nat) "month") ∈ lw_tbl := lw_at lw_m1 60 rfl
theorem q159 : (Jvm.Cond.classLink "LastSpeakers$Reader" (31 : Nat) "LastSpeakers$Tongue") ∈ lw_all := lw_g (lw_at lw_m1 61 rfl) rfl
theorem q161 : (Jvm.Cond.methodLinkNest "LastSpeakers$Reader" (33 : Nat) ({ cls := "LastSpeakers$Tongue", name := "<init>", desc := "()V" } : Jvm.MethodName) "LastSpeakers") ∈ lw_tbl := lw_at lw_m1 63 rfl
theorem q200 : (Jvm.Cond.fieldLinkNest "LastSpeakers$Reader" (115 : Nat) "LastSpeakers$Tongue" "things" "Ljava/util/ArrayList;" "LastSpeakers") ∈ lw_tbl := lw_at lw_m1 102 rfl
theorem q203 : (Jvm.Cond.fieldLinkNest "LastSpeakers$Reader" (137 : Nat) "LastSpeakers$Tongue" "people" "Ljava/util/ArrayList;" "LastSpeakers") ∈ lw_tbl := lw_at lw_m1 105 rfl
theorem q205 : (Jvm.Cond.fieldLinkNest "LastSpeakers$Reader" (177 : Nat) "LastSpeakers$Tongue" "follows" "Ljava/util/ArrayList;" "LastSpeakers") ∈ lw_tbl := lw_at lw_m1 107 rfl
theorem q207 : (Jvm.Cond.fieldLinkNest "LastSpeakers$Reader" (200 : Nat) "LastSpeakers$Tongue" "month" "I" "LastSpeakers") ∈ lw_tbl := lw_at lw_m1 109 rfl
theorem q210 : (Jvm.Cond.fieldLinkNest "LastSpeakers$Reader" (165 : Nat) "LastSpeakers$Tongue" "leanMany" "I" "LastSpeakers") ∈ lw_tbl := lw_at lw_m1 112 rfl
theorem q211 : (Jvm.Cond.fieldLinkNest "LastSpeakers$Reader" (171 : Nat) "LastSpeakers$Tongue" "nearMany" "I" "LastSpeakers") ∈ lw_tbl := lw_at lw_m1 113 rfl
theorem q231 : (Jvm.Cond.fieldLink "LastSpeakers$Reader" (25 : Nat) "LastSpeakers$Reader" "words" "[Ljava/lang/String;") ∈ lw_all := lw_g (lw_at lw_m1 133 rfl) rfl
theorem q232 : (Jvm.Cond.fieldLink "LastSpeakers$Reader" (42 : Nat) "LastSpeakers$Reader" "text" "[B") ∈ lw_all := lw_g (lw_at lw_m1 134 rfl) rfl
theorem q233 : (Jvm.Cond.fieldLink "LastSpeakers$Reader" (46 : Nat) "LastSpeakers$Reader" "many" "I") ∈ lw_all := lw_g (lw_at lw_m1 135 rfl) rfl
theorem q234 : (Jvm.Cond.fieldLink "LastSpeakers$Reader" (34 : Nat) "LastSpeakers$Reader" "tongue" "LLastSpeakers$Tongue;") ∈ lw_all := lw_g (lw_at lw_m1 136 rfl) rfl
theorem q236 : (Jvm.Cond.fieldLink "LastSpeakers$Reader" (52 : Nat) "LastSpeakers$Reader" "from" "I") ∈ lw_all := lw_g (lw_at lw_m1 138 rfl) rfl
theorem q237 : (Jvm.Cond.fieldLink "LastSpeakers$Reader" (49 : Nat) "LastSpeakers$Reader" "to" "I") ∈ lw_all := lw_g (lw_at lw_m1 139 rfl) rfl
theorem q238 : (Jvm.Cond.fieldLink "LastSpeakers$Reader" (80 : Nat) "LastSpeakers$Reader" "value" "I") ∈ lw_all := lw_g (lw_at lw_m1 140 rfl) rfl
theorem q239 : (Jvm.Cond.fieldLink "LastSpeakers$Reader" (38 : Nat) "LastSpeakers$Reader" "fault" "I") ∈ lw_all := lw_g (lw_at lw_m1 141 rfl) rfl
theorem q240 : (Jvm.Cond.fieldLink "LastSpeakers$Reader" (183 : Nat) "LastSpeakers$Reader" "hasMonth" "Z") ∈ lw_all := lw_g (lw_at lw_m1 142 rfl) rfl
theorem q241 : (Jvm.Cond.laysFinal "LastSpeakers$Reader" "LastSpeakers$Reader" "words" "[Ljava/lang/String;") ∈ lw_all := lw_g (lw_at lw_m1 143 rfl) rfl
theorem q242 : (Jvm.Cond.soleField "LastSpeakers$Reader" "words") ∈ lw_all := lw_g (lw_at lw_m1 144 rfl) rfl
theorem q243 : (Jvm.Cond.laysFinal "LastSpeakers$Reader" "LastSpeakers$Reader" "text" "[B") ∈ lw_all := lw_g (lw_at lw_m1 145 rfl) rfl
theorem q244 : (Jvm.Cond.soleField "LastSpeakers$Reader" "text") ∈ lw_all := lw_g (lw_at lw_m1 146 rfl) rfl
theorem q245 : (Jvm.Cond.laysFinal "LastSpeakers$Reader" "LastSpeakers$Reader" "many" "I") ∈ lw_all := lw_g (lw_at lw_m1 147 rfl) rfl
theorem q246 : (Jvm.Cond.soleField "LastSpeakers$Reader" "many") ∈ lw_all := lw_g (lw_at lw_m1 148 rfl) rfl
theorem q247 : (Jvm.Cond.laysFinal "LastSpeakers$Reader" "LastSpeakers$Reader" "tongue" "LLastSpeakers$Tongue;") ∈ lw_all := lw_g (lw_at lw_m1 149 rfl) rfl
theorem q248 : (Jvm.Cond.soleField "LastSpeakers$Reader" "tongue") ∈ lw_all := lw_g (lw_at lw_m1 150 rfl) rfl
theorem q249 : (Jvm.Cond.lays "LastSpeakers$Reader" "LastSpeakers$Reader" "from" "I") ∈ lw_all := lw_g (lw_at lw_m1 151 rfl) rfl
theorem q250 : (Jvm.Cond.soleField "LastSpeakers$Reader" "from") ∈ lw_all := lw_g (lw_at lw_m1 152 rfl) rfl
theorem q251 : (Jvm.Cond.lays "LastSpeakers$Reader" "LastSpeakers$Reader" "to" "I") ∈ lw_all := lw_g (lw_at lw_m1 153 rfl) rfl
theorem q252 : (Jvm.Cond.soleField "LastSpeakers$Reader" "to") ∈ lw_all := lw_g (lw_at lw_m1 154 rfl) rfl
theorem q253 : (Jvm.Cond.lays "LastSpeakers$Reader" "LastSpeakers$Reader" "value" "I") ∈ lw_all := lw_g (lw_at lw_m1 155 rfl) rfl
theorem q254 : (Jvm.Cond.soleField "LastSpeakers$Reader" "value") ∈ lw_all := lw_g (lw_at lw_m1 156 rfl) rfl
theorem q255 : (Jvm.Cond.lays "LastSpeakers$Reader" "LastSpeakers$Reader" "fault" "I") ∈ lw_all := lw_g (lw_at lw_m1 157 rfl) rfl
theorem q256 : (Jvm.Cond.soleField "LastSpeakers$Reader" "fault") ∈ lw_all := lw_g (lw_at lw_m1 158 rfl) rfl
theorem q257 : (Jvm.Cond.lays "LastSpeakers$Reader" "LastSpeakers$Reader" "hasMonth" "Z") ∈ lw_all := lw_g (lw_at lw_m1 159 rfl) rfl
theorem q258 : (Jvm.Cond.soleField "LastSpeakers$Reader" "hasMonth") ∈ lw_all := lw_g (lw_at lw_m1 160 rfl) rfl
theorem q259 : (Jvm.Cond.superclass "LastSpeakers$Reader" "java/lang/Object") ∈ lw_all := lw_g (lw_at lw_m1 161 rfl) rfl
theorem q261 : (Jvm.Cond.instanceMethod ({ cls := "LastSpeakers$Reader", name := "reads", desc := "()I" } : Jvm.MethodName)) ∈ lw_all := lw_g (lw_at lw_m1 163 rfl) rfl
theorem q262 : (Jvm.Cond.selects "LastSpeakers$Reader" ({ cls := "LastSpeakers$Reader", name := "reads", desc := "()I" } : Jvm.MethodName) ({ cls := "LastSpeakers$Reader", name := "reads", desc := "()I" } : Jvm.MethodName)) ∈ lw_all := lw_g (lw_at lw_m1 164 rfl) rfl
theorem q263 : (Jvm.Cond.code ({ cls := "LastSpeakers$Reader", name := "reads", desc := "()I" } : Jvm.MethodName) prog_7_method_21_code (2 : Nat) (Option.some Jvm.ClassFile.FieldType.int)) ∈ lw_all := lw_g (lw_at lw_m1 165 rfl) rfl
theorem q264 : (Jvm.Cond.methodLink "LastSpeakers$Reader" (59 : Nat) ({ cls := "LastSpeakers$Reader", name := "next", desc := "()V" } : Jvm.MethodName)) ∈ lw_all := lw_g (lw_at lw_m1 166 rfl) rfl
theorem q265 : (Jvm.Cond.privateMethod ({ cls := "LastSpeakers$Reader", name := "next", desc := "()V" } : Jvm.MethodName)) ∈ lw_tbl := lw_at lw_m1 167 rfl
theorem q266 : (Jvm.Cond.instanceMethod ({ cls := "LastSpeakers$Reader", name := "next", desc := "()V" } : Jvm.MethodName)) ∈ lw_all := lw_g (lw_at lw_m1 168 rfl) rfl
theorem q267 : (Jvm.Cond.code ({ cls := "LastSpeakers$Reader", name := "next", desc := "()V" } : Jvm.MethodName) prog_7_method_3_code (1 : Nat) (Option.none : Option Jvm.ClassFile.FieldType)) ∈ lw_all := lw_g (lw_at lw_m1 169 rfl) rfl
theorem q268 : (Jvm.Cond.methodLink "LastSpeakers$Reader" (55 : Nat) ({ cls := "LastSpeakers$Reader", name := "isBetween", desc := "(III)Z" } : Jvm.MethodName)) ∈ lw_all := lw_g (lw_at lw_m1 170 rfl) rfl
theorem q269 : (Jvm.Cond.privateMethod ({ cls := "LastSpeakers$Reader", name := "isBetween", desc := "(III)Z" } : Jvm.MethodName)) ∈ lw_tbl := lw_at lw_m1 171 rfl
theorem q270 : (Jvm.Cond.instanceMethod ({ cls := "LastSpeakers$Reader", name := "isBetween", desc := "(III)Z" } : Jvm.MethodName)) ∈ lw_all := lw_g (lw_at lw_m1 172 rfl) rfl
theorem q271 : (Jvm.Cond.code ({ cls := "LastSpeakers$Reader", name := "isBetween", desc := "(III)Z" } : Jvm.MethodName) prog_7_method_2_code (4 : Nat) (Option.some Jvm.ClassFile.FieldType.boolean)) ∈ lw_all := lw_g (lw_at lw_m1 173 rfl) rfl
theorem q272 : (Jvm.Cond.methodLink "LastSpeakers$Reader" (208 : Nat) ({ cls := "LastSpeakers$Reader", name := "line", desc := "()Z" } : Jvm.MethodName)) ∈ lw_all := lw_g (lw_at lw_m1 174 rfl) rfl
theorem q273 : (Jvm.Cond.privateMethod ({ cls := "LastSpeakers$Reader", name := "line", desc := "()Z" } : Jvm.MethodName)) ∈ lw_tbl := lw_at lw_m1 175 rfl
theorem q274 : (Jvm.Cond.instanceMethod ({ cls := "LastSpeakers$Reader", name := "line", desc := "()Z" } : Jvm.MethodName)) ∈ lw_all := lw_g (lw_at lw_m1 176 rfl) rfl
theorem q275 : (Jvm.Cond.code ({ cls := "LastSpeakers$Reader", name := "line", desc := "()Z" } : Jvm.MethodName) prog_7_method_20_code (2 : Nat) (Option.some Jvm.ClassFile.FieldType.boolean)) ∈ lw_all := lw_g (lw_at lw_m1 177 rfl) rfl
theorem q276 : (Jvm.Cond.methodLink "LastSpeakers$Reader" (91 : Nat) ({ cls := "LastSpeakers$Reader", name := "wordHere", desc := "()I" } : Jvm.MethodName)) ∈ lw_all := lw_g (lw_at lw_m1 178 rfl) rfl
theorem q277 : (Jvm.Cond.privateMethod ({ cls := "LastSpeakers$Reader", name := "wordHere", desc := "()I" } : Jvm.MethodName)) ∈ lw_tbl := lw_at lw_m1 179 rfl
theorem q278 : (Jvm.Cond.instanceMethod ({ cls := "LastSpeakers$Reader", name := "wordHere", desc := "()I" } : Jvm.MethodName)) ∈ lw_all := lw_g (lw_at lw_m1 180 rfl) rfl
theorem q279 : (Jvm.Cond.code ({ cls := "LastSpeakers$Reader", name := "wordHere", desc := "()I" } : Jvm.MethodName) prog_7_method_7_code (2 : Nat) (Option.some Jvm.ClassFile.FieldType.int)) ∈ lw_all := lw_g (lw_at lw_m1 181 rfl) rfl
theorem q280 : (Jvm.Cond.methodLink "LastSpeakers$Reader" (70 : Nat) ({ cls := "LastSpeakers$Reader", name := "isWord", desc := "(Ljava/lang/String;)Z" } : Jvm.MethodName)) ∈ lw_all := lw_g (lw_at lw_m1 182 rfl) rfl
theorem q281 : (Jvm.Cond.privateMethod ({ cls := "LastSpeakers$Reader", name := "isWord", desc := "(Ljava/lang/String;)Z" } : Jvm.MethodName)) ∈ lw_tbl := lw_at lw_m1 183 rfl
theorem q282 : (Jvm.Cond.instanceMethod ({ cls := "LastSpeakers$Reader", name := "isWord", desc := "(Ljava/lang/String;)Z" } : Jvm.MethodName)) ∈ lw_all := lw_g (lw_at lw_m1 184 rfl) rfl
theorem q283 : (Jvm.Cond.code ({ cls := "LastSpeakers$Reader", name := "isWord", desc := "(Ljava/lang/String;)Z" } : Jvm.MethodName) prog_7_method_6_code (3 : Nat) (Option.some Jvm.ClassFile.FieldType.boolean)) ∈ lw_all := lw_g (lw_at lw_m1 185 rfl) rfl
theorem q284 : (Jvm.Cond.methodLink "LastSpeakers$Reader" (62 : Nat) ({ cls := "java/lang/String", name := "length", desc := "()I" } : Jvm.MethodName)) ∈ lw_all := lw_g (lw_at lw_m1 186 rfl) rfl
theorem q294 : (Jvm.Cond.methodLink "LastSpeakers$Reader" (66 : Nat) ({ cls := "java/lang/String", name := "charAt", desc := "(I)C" } : Jvm.MethodName)) ∈ lw_all := lw_g (lw_at lw_m1 196 rfl) rfl
theorem q332 : (Jvm.Cond.methodLink "LastSpeakers$Reader" (202 : Nat) ({ cls := "LastSpeakers$Reader", name := "hasRoom", desc := "(I)Z" } : Jvm.MethodName)) ∈ lw_all := lw_g (lw_at lw_m1 234 rfl) rfl
theorem q333 : (Jvm.Cond.privateMethod ({ cls := "LastSpeakers$Reader", name := "hasRoom", desc := "(I)Z" } : Jvm.MethodName)) ∈ lw_tbl := lw_at lw_m1 235 rfl
theorem q334 : (Jvm.Cond.instanceMethod ({ cls := "LastSpeakers$Reader", name := "hasRoom", desc := "(I)Z" } : Jvm.MethodName)) ∈ lw_all := lw_g (lw_at lw_m1 236 rfl) rfl
theorem q335 : (Jvm.Cond.code ({ cls := "LastSpeakers$Reader", name := "hasRoom", desc := "(I)Z" } : Jvm.MethodName) prog_7_method_18_code (2 : Nat) (Option.some Jvm.ClassFile.FieldType.boolean)) ∈ lw_all := lw_g (lw_at lw_m1 237 rfl) rfl
theorem q336 : (Jvm.Cond.methodLink "LastSpeakers$Reader" (119 : Nat) ({ cls := "java/util/ArrayList", name := "size", desc := "()I" } : Jvm.MethodName)) ∈ lw_all := lw_g (lw_at lw_m1 238 rfl) rfl
theorem q340 : (Jvm.Cond.methodLink "LastSpeakers$Reader" (87 : Nat) ({ cls := "LastSpeakers$Reader", name := "passes", desc := "(Z)Z" } : Jvm.MethodName)) ∈ lw_all := lw_g (lw_at lw_m2 2 rfl) rfl
theorem q341 : (Jvm.Cond.privateMethod ({ cls := "LastSpeakers$Reader", name := "passes", desc := "(Z)Z" } : Jvm.MethodName)) ∈ lw_tbl := lw_at lw_m2 3 rfl
theorem q342 : (Jvm.Cond.instanceMethod ({ cls := "LastSpeakers$Reader", name := "passes", desc := "(Z)Z" } : Jvm.MethodName)) ∈ lw_all := lw_g (lw_at lw_m2 4 rfl) rfl
theorem q343 : (Jvm.Cond.code ({ cls := "LastSpeakers$Reader", name := "passes", desc := "(Z)Z" } : Jvm.MethodName) prog_7_method_4_code (2 : Nat) (Option.some Jvm.ClassFile.FieldType.boolean)) ∈ lw_all := lw_g (lw_at lw_m2 5 rfl) rfl
theorem q344 : (Jvm.Cond.methodLink "LastSpeakers$Reader" (205 : Nat) ({ cls := "LastSpeakers$Reader", name := "told", desc := "(I)Z" } : Jvm.MethodName)) ∈ lw_all := lw_g (lw_at lw_m2 6 rfl) rfl
theorem q345 : (Jvm.Cond.privateMethod ({ cls := "LastSpeakers$Reader", name := "told", desc := "(I)Z" } : Jvm.MethodName)) ∈ lw_tbl := lw_at lw_m2 7 rfl
theorem q346 : (Jvm.Cond.instanceMethod ({ cls := "LastSpeakers$Reader", name := "told", desc := "(I)Z" } : Jvm.MethodName)) ∈ lw_all := lw_g (lw_at lw_m2 8 rfl) rfl
theorem q347 : (Jvm.Cond.code ({ cls := "LastSpeakers$Reader", name := "told", desc := "(I)Z" } : Jvm.MethodName) prog_7_method_19_code (2 : Nat) (Option.some Jvm.ClassFile.FieldType.boolean)) ∈ lw_all := lw_g (lw_at lw_m2 9 rfl) rfl
theorem q348 : (Jvm.Cond.methodLink "LastSpeakers$Reader" (187 : Nat) ({ cls := "LastSpeakers$Reader", name := "thing", desc := "()Z" } : Jvm.MethodName)) ∈ lw_all := lw_g (lw_at lw_m2 10 rfl) rfl
theorem q349 : (Jvm.Cond.privateMethod ({ cls := "LastSpeakers$Reader", name := "thing", desc := "()Z" } : Jvm.MethodName)) ∈ lw_tbl := lw_at lw_m2 11 rfl
theorem q350 : (Jvm.Cond.instanceMethod ({ cls := "LastSpeakers$Reader", name := "thing", desc := "()Z" } : Jvm.MethodName)) ∈ lw_all := lw_g (lw_at lw_m2 12 rfl) rfl
theorem q351 : (Jvm.Cond.code ({ cls := "LastSpeakers$Reader", name := "thing", desc := "()Z" } : Jvm.MethodName) prog_7_method_12_code (4 : Nat) (Option.some Jvm.ClassFile.FieldType.boolean)) ∈ lw_all := lw_g (lw_at lw_m2 13 rfl) rfl
theorem q352 : (Jvm.Cond.methodLink "LastSpeakers$Reader" (100 : Nat) ({ cls := "LastSpeakers$Reader", name := "name", desc := "()J" } : Jvm.MethodName)) ∈ lw_all := lw_g (lw_at lw_m2 14 rfl) rfl
theorem q353 : (Jvm.Cond.privateMethod ({ cls := "LastSpeakers$Reader", name := "name", desc := "()J" } : Jvm.MethodName)) ∈ lw_tbl := lw_at lw_m2 15 rfl
theorem q354 : (Jvm.Cond.instanceMethod ({ cls := "LastSpeakers$Reader", name := "name", desc := "()J" } : Jvm.MethodName)) ∈ lw_all := lw_g (lw_at lw_m2 16 rfl) rfl
theorem q355 : (Jvm.Cond.code ({ cls := "LastSpeakers$Reader", name := "name", desc := "()J" } : Jvm.MethodName) prog_7_method_9_code (4 : Nat) (Option.some Jvm.ClassFile.FieldType.long)) ∈ lw_all := lw_g (lw_at lw_m2 17 rfl) rfl
theorem q356 : (Jvm.Cond.constantLong "LastSpeakers$Reader" (94 : Nat) (-1 : Int64)) ∈ lw_all := lw_g (lw_at lw_m2 18 rfl) rfl
theorem q357 : (Jvm.Cond.constantLong "LastSpeakers$Reader" (96 : Nat) (27 : Int64)) ∈ lw_all := lw_g (lw_at lw_m2 19 rfl) rfl
theorem q358 : (Jvm.Cond.constantLong "LastSpeakers$Reader" (98 : Nat) (97 : Int64)) ∈ lw_all := lw_g (lw_at lw_m2 20 rfl) rfl
theorem q359 : (Jvm.Cond.methodLink "LastSpeakers$Reader" (104 : Nat) ({ cls := "LastSpeakers$Tongue", name := "find", desc := "(J)I" } : Jvm.MethodName)) ∈ lw_all := lw_g (lw_at lw_m2 21 rfl) rfl
theorem q363 : (Jvm.Cond.methodLink "LastSpeakers$Reader" (111 : Nat) ({ cls := "LastSpeakers$Reader", name := "number", desc := "(II)Z" } : Jvm.MethodName)) ∈ lw_all := lw_g (lw_at lw_m2 25 rfl) rfl
theorem q364 : (Jvm.Cond.privateMethod ({ cls := "LastSpeakers$Reader", name := "number", desc := "(II)Z" } : Jvm.MethodName)) ∈ lw_tbl := lw_at lw_m2 26 rfl
theorem q365 : (Jvm.Cond.instanceMethod ({ cls := "LastSpeakers$Reader", name := "number", desc := "(II)Z" } : Jvm.MethodName)) ∈ lw_all := lw_g (lw_at lw_m2 27 rfl) rfl
theorem q366 : (Jvm.Cond.code ({ cls := "LastSpeakers$Reader", name := "number", desc := "(II)Z" } : Jvm.MethodName) prog_7_method_8_code (6 : Nat) (Option.some Jvm.ClassFile.FieldType.boolean)) ∈ lw_all := lw_g (lw_at lw_m2 28 rfl) rfl
theorem q367 : (Jvm.Cond.methodLink "LastSpeakers$Reader" (74 : Nat) ({ cls := "java/lang/Math", name := "min", desc := "(II)I" } : Jvm.MethodName)) ∈ lw_all := lw_g (lw_at lw_m2 29 rfl) rfl
theorem q370 : (Jvm.Cond.methodLinkNest "LastSpeakers$Reader" (83 : Nat) ({ cls := "LastSpeakers", name := "in", desc := "(JJJ)Z" } : Jvm.MethodName) "LastSpeakers") ∈ lw_tbl := lw_at lw_m2 32 rfl
theorem q371 : (Jvm.Cond.methodLink "LastSpeakers$Reader" (124 : Nat) ({ cls := "LastSpeakers$Tongue", name := "adds", desc := "(JI)V" } : Jvm.MethodName)) ∈ lw_all := lw_g (lw_at lw_m2 33 rfl) rfl
theorem q375 : (Jvm.Cond.classLink "LastSpeakers$Reader" (128 : Nat) "LastSpeakers$Thing") ∈ lw_all := lw_g (lw_at lw_m2 37 rfl) rfl
theorem q377 : (Jvm.Cond.methodLink "LastSpeakers$Reader" (130 : Nat) ({ cls := "LastSpeakers$Thing", name := "<init>", desc := "(II)V" } : Jvm.MethodName)) ∈ lw_all := lw_g (lw_at lw_m2 39 rfl) rfl
theorem q387 : (Jvm.Cond.fieldLinkNest "LastSpeakers$Reader" (162 : Nat) "LastSpeakers$Thing" "leans" "I" "LastSpeakers") ∈ lw_tbl := lw_at lw_m2 49 rfl
theorem q390 : (Jvm.Cond.fieldLinkNest "LastSpeakers$Reader" (168 : Nat) "LastSpeakers$Thing" "reminds" "I" "LastSpeakers") ∈ lw_tbl := lw_at lw_m2 52 rfl
theorem q400 : (Jvm.Cond.methodLink "LastSpeakers$Reader" (133 : Nat) ({ cls := "java/util/ArrayList", name := "add", desc := "(Ljava/lang/Object;)Z" } : Jvm.MethodName)) ∈ lw_all := lw_g (lw_at lw_m2 62 rfl) rfl
theorem q440 : (Jvm.Cond.selects "LastSpeakers$Reader" ({ cls := "java/lang/Object", name := "getClass", desc := "()Ljava/lang/Class;" } : Jvm.MethodName) ({ cls := "java/lang/Object", name := "getClass", desc := "()Ljava/lang/Class;" } : Jvm.MethodName)) ∈ lw_all := lw_g (lw_at lw_m2 102 rfl) rfl
theorem q456 : (Jvm.Cond.methodLink "LastSpeakers$Reader" (190 : Nat) ({ cls := "LastSpeakers$Reader", name := "person", desc := "()Z" } : Jvm.MethodName)) ∈ lw_all := lw_g (lw_at lw_m2 118 rfl) rfl
theorem q457 : (Jvm.Cond.privateMethod ({ cls := "LastSpeakers$Reader", name := "person", desc := "()Z" } : Jvm.MethodName)) ∈ lw_tbl := lw_at lw_m2 119 rfl
theorem q458 : (Jvm.Cond.instanceMethod ({ cls := "LastSpeakers$Reader", name := "person", desc := "()Z" } : Jvm.MethodName)) ∈ lw_all := lw_g (lw_at lw_m2 120 rfl) rfl
theorem q459 : (Jvm.Cond.code ({ cls := "LastSpeakers$Reader", name := "person", desc := "()Z" } : Jvm.MethodName) prog_7_method_13_code (3 : Nat) (Option.some Jvm.ClassFile.FieldType.boolean)) ∈ lw_all := lw_g (lw_at lw_m2 121 rfl) rfl
theorem q460 : (Jvm.Cond.classLink "LastSpeakers$Reader" (140 : Nat) "LastSpeakers$Person") ∈ lw_all := lw_g (lw_at lw_m2 122 rfl) rfl
theorem q462 : (Jvm.Cond.methodLink "LastSpeakers$Reader" (142 : Nat) ({ cls := "LastSpeakers$Person", name := "<init>", desc := "(I)V" } : Jvm.MethodName)) ∈ lw_all := lw_g (lw_at lw_m2 124 rfl) rfl
theorem q469 : (Jvm.Cond.fieldLinkNest "LastSpeakers$Reader" (155 : Nat) "LastSpeakers$Person" "clear" "[I" "LastSpeakers") ∈ lw_tbl := lw_at lw_m2 131 rfl
theorem q472 : (Jvm.Cond.fieldLinkNest "LastSpeakers$Reader" (159 : Nat) "LastSpeakers$Person" "after" "[I" "LastSpeakers") ∈ lw_tbl := lw_at lw_m2 134 rfl
theorem q488 : (Jvm.Cond.methodLink "LastSpeakers$Reader" (192 : Nat) ({ cls := "LastSpeakers$Reader", name := "knows", desc := "()Z" } : Jvm.MethodName)) ∈ lw_all := lw_g (lw_at lw_m2 150 rfl) rfl
theorem q489 : (Jvm.Cond.privateMethod ({ cls := "LastSpeakers$Reader", name := "knows", desc := "()Z" } : Jvm.MethodName)) ∈ lw_tbl := lw_at lw_m2 151 rfl
theorem q490 : (Jvm.Cond.instanceMethod ({ cls := "LastSpeakers$Reader", name := "knows", desc := "()Z" } : Jvm.MethodName)) ∈ lw_all := lw_g (lw_at lw_m2 152 rfl) rfl
theorem q491 : (Jvm.Cond.code ({ cls := "LastSpeakers$Reader", name := "knows", desc := "()Z" } : Jvm.MethodName) prog_7_method_14_code (5 : Nat) (Option.some Jvm.ClassFile.FieldType.boolean)) ∈ lw_all := lw_g (lw_at lw_m2 153 rfl) rfl
theorem q492 : (Jvm.Cond.methodLink "LastSpeakers$Reader" (108 : Nat) ({ cls := "LastSpeakers$Reader", name := "found", desc := "()I" } : Jvm.MethodName)) ∈ lw_all := lw_g (lw_at lw_m2 154 rfl) rfl
theorem q493 : (Jvm.Cond.privateMethod ({ cls := "LastSpeakers$Reader", name := "found", desc := "()I" } : Jvm.MethodName)) ∈ lw_tbl := lw_at lw_m2 155 rfl
theorem q494 : (Jvm.Cond.instanceMethod ({ cls := "LastSpeakers$Reader", name := "found", desc := "()I" } : Jvm.MethodName)) ∈ lw_all := lw_g (lw_at lw_m2 156 rfl) rfl
theorem q495 : (Jvm.Cond.code ({ cls := "LastSpeakers$Reader", name := "found", desc := "()I" } : Jvm.MethodName) prog_7_method_10_code (3 : Nat) (Option.some Jvm.ClassFile.FieldType.int)) ∈ lw_all := lw_g (lw_at lw_m2 157 rfl) rfl
theorem q496 : (Jvm.Cond.methodLink "LastSpeakers$Reader" (145 : Nat) ({ cls := "java/util/ArrayList", name := "get", desc := "(I)Ljava/lang/Object;" } : Jvm.MethodName)) ∈ lw_all := lw_g (lw_at lw_m2 158 rfl) rfl
theorem q508 : (Jvm.Cond.methodLink "LastSpeakers$Reader" (149 : Nat) ({ cls := "LastSpeakers$Reader", name := "thingHere", desc := "()I" } : Jvm.MethodName)) ∈ lw_all := lw_g (lw_at lw_m2 170 rfl) rfl
theorem q509 : (Jvm.Cond.privateMethod ({ cls := "LastSpeakers$Reader", name := "thingHere", desc := "()I" } : Jvm.MethodName)) ∈ lw_tbl := lw_at lw_m2 171 rfl
theorem q510 : (Jvm.Cond.instanceMethod ({ cls := "LastSpeakers$Reader", name := "thingHere", desc := "()I" } : Jvm.MethodName)) ∈ lw_all := lw_g (lw_at lw_m2 172 rfl) rfl
theorem q511 : (Jvm.Cond.code ({ cls := "LastSpeakers$Reader", name := "thingHere", desc := "()I" } : Jvm.MethodName) prog_7_method_11_code (2 : Nat) (Option.some Jvm.ClassFile.FieldType.int)) ∈ lw_all := lw_g (lw_at lw_m2 173 rfl) rfl
theorem q512 : (Jvm.Cond.methodLink "LastSpeakers$Reader" (152 : Nat) ({ cls := "LastSpeakers$Person", name := "knows", desc := "(I)Z" } : Jvm.MethodName)) ∈ lw_all := lw_g (lw_at lw_m2 174 rfl) rfl
theorem q516 : (Jvm.Cond.methodLink "LastSpeakers$Reader" (194 : Nat) ({ cls := "LastSpeakers$Reader", name := "leans", desc := "()Z" } : Jvm.MethodName)) ∈ lw_all := lw_g (lw_at lw_m2 178 rfl) rfl
theorem q517 : (Jvm.Cond.privateMethod ({ cls := "LastSpeakers$Reader", name := "leans", desc := "()Z" } : Jvm.MethodName)) ∈ lw_tbl := lw_at lw_m2 179 rfl
theorem q518 : (Jvm.Cond.instanceMethod ({ cls := "LastSpeakers$Reader", name := "leans", desc := "()Z" } : Jvm.MethodName)) ∈ lw_all := lw_g (lw_at lw_m2 180 rfl) rfl
theorem q519 : (Jvm.Cond.code ({ cls := "LastSpeakers$Reader", name := "leans", desc := "()Z" } : Jvm.MethodName) prog_7_method_15_code (3 : Nat) (Option.some Jvm.ClassFile.FieldType.boolean)) ∈ lw_all := lw_g (lw_at lw_m2 181 rfl) rfl
theorem q520 : (Jvm.Cond.methodLink "LastSpeakers$Reader" (196 : Nat) ({ cls := "LastSpeakers$Reader", name := "reminds", desc := "()Z" } : Jvm.MethodName)) ∈ lw_all := lw_g (lw_at lw_m2 182 rfl) rfl
theorem q521 : (Jvm.Cond.privateMethod ({ cls := "LastSpeakers$Reader", name := "reminds", desc := "()Z" } : Jvm.MethodName)) ∈ lw_tbl := lw_at lw_m2 183 rfl
theorem q522 : (Jvm.Cond.instanceMethod ({ cls := "LastSpeakers$Reader", name := "reminds", desc := "()Z" } : Jvm.MethodName)) ∈ lw_all := lw_g (lw_at lw_m2 184 rfl) rfl
theorem q523 : (Jvm.Cond.code ({ cls := "LastSpeakers$Reader", name := "reminds", desc := "()Z" } : Jvm.MethodName) prog_7_method_16_code (3 : Nat) (Option.some Jvm.ClassFile.FieldType.boolean)) ∈ lw_all := lw_g (lw_at lw_m2 185 rfl) rfl
theorem q524 : (Jvm.Cond.methodLink "LastSpeakers$Reader" (198 : Nat) ({ cls := "LastSpeakers$Reader", name := "follows", desc := "()Z" } : Jvm.MethodName)) ∈ lw_all := lw_g (lw_at lw_m2 186 rfl) rfl
theorem q525 : (Jvm.Cond.privateMethod ({ cls := "LastSpeakers$Reader", name := "follows", desc := "()Z" } : Jvm.MethodName)) ∈ lw_tbl := lw_at lw_m2 187 rfl
theorem q526 : (Jvm.Cond.instanceMethod ({ cls := "LastSpeakers$Reader", name := "follows", desc := "()Z" } : Jvm.MethodName)) ∈ lw_all := lw_g (lw_at lw_m2 188 rfl) rfl
theorem q527 : (Jvm.Cond.code ({ cls := "LastSpeakers$Reader", name := "follows", desc := "()Z" } : Jvm.MethodName) prog_7_method_17_code (5 : Nat) (Option.some Jvm.ClassFile.FieldType.boolean)) ∈ lw_all := lw_g (lw_at lw_m2 189 rfl) rfl
theorem q528 : (Jvm.Cond.methodLink "LastSpeakers$Reader" (174 : Nat) ({ cls := "LastSpeakers$Reader", name := "isSign", desc := "(I)Z" } : Jvm.MethodName)) ∈ lw_all := lw_g (lw_at lw_m2 190 rfl) rfl
theorem q529 : (Jvm.Cond.privateMethod ({ cls := "LastSpeakers$Reader", name := "isSign", desc := "(I)Z" } : Jvm.MethodName)) ∈ lw_tbl := lw_at lw_m2 191 rfl
theorem q530 : (Jvm.Cond.instanceMethod ({ cls := "LastSpeakers$Reader", name := "isSign", desc := "(I)Z" } : Jvm.MethodName)) ∈ lw_all := lw_g (lw_at lw_m2 192 rfl) rfl
theorem q531 : (Jvm.Cond.code ({ cls := "LastSpeakers$Reader", name := "isSign", desc := "(I)Z" } : Jvm.MethodName) prog_7_method_5_code (2 : Nat) (Option.some Jvm.ClassFile.FieldType.boolean)) ∈ lw_all := lw_g (lw_at lw_m2 193 rfl) rfl
theorem q532 : (Jvm.Cond.classLink "LastSpeakers$Reader" (180 : Nat) "LastSpeakers$Follow") ∈ lw_all := lw_g (lw_at lw_m2 194 rfl) rfl
theorem q534 : (Jvm.Cond.methodLink "LastSpeakers$Reader" (182 : Nat) ({ cls := "LastSpeakers$Follow", name := "<init>", desc := "(II)V" } : Jvm.MethodName)) ∈ lw_all := lw_g (lw_at lw_m2 196 rfl) rfl
theorem q546 : (Jvm.Cond.methodLink "LastSpeakers$Reader" (211 : Nat) ({ cls := "java/util/ArrayList", name := "isEmpty", desc := "()Z" } : Jvm.MethodName)) ∈ lw_all := lw_g (lw_at lw_m2 208 rfl) rfl
theorem q1598 : (Jvm.Cond.castable "LastSpeakers$Reader" "java/lang/Object") ∈ lw_tbl := lw_at lw_m7 60 rfl
theorem q105 : (Jvm.Cond.initialized "LastSpeakers$Tongue") ∈ lw_all := lw_g (lw_at lw_m1 7 rfl) rfl
theorem q160 : (Jvm.Cond.instantiable "LastSpeakers$Tongue" (9 : Nat)) ∈ lw_all := lw_g (lw_at lw_m1 62 rfl) rfl
theorem q162 : (Jvm.Cond.instanceMethod ({ cls := "LastSpeakers$Tongue", name := "<init>", desc := "()V" } : Jvm.MethodName)) ∈ lw_all := lw_g (lw_at lw_m1 64 rfl) rfl
theorem q163 : (Jvm.Cond.code ({ cls := "LastSpeakers$Tongue", name := "<init>", desc := "()V" } : Jvm.MethodName) prog_9_method_1_code (1 : Nat) (Option.none : Option Jvm.ClassFile.FieldType)) ∈ lw_all := lw_g (lw_at lw_m1 65 rfl) rfl
theorem q164 : (Jvm.Cond.methodLink "LastSpeakers$Tongue" (3 : Nat) ({ cls := "java/lang/Object", name := "<init>", desc := "()V" } : Jvm.MethodName)) ∈ lw_all := lw_g (lw_at lw_m1 66 rfl) rfl
theorem q165 : (Jvm.Cond.classLink "LastSpeakers$Tongue" (19 : Nat) "java/util/ArrayList") ∈ lw_all := lw_g (lw_at lw_m1 67 rfl) rfl
theorem q167 : (Jvm.Cond.methodLink "LastSpeakers$Tongue" (21 : Nat) ({ cls := "java/util/ArrayList", name := "<init>", desc := "(I)V" } : Jvm.MethodName)) ∈ lw_all := lw_g (lw_at lw_m1 69 rfl) rfl
theorem q196 : (Jvm.Cond.fieldLink "LastSpeakers$Tongue" (9 : Nat) "LastSpeakers$Tongue" "names" "[J") ∈ lw_all := lw_g (lw_at lw_m1 98 rfl) rfl
theorem q197 : (Jvm.Cond.fieldLink "LastSpeakers$Tongue" (15 : Nat) "LastSpeakers$Tongue" "named" "[I") ∈ lw_all := lw_g (lw_at lw_m1 99 rfl) rfl
theorem q198 : (Jvm.Cond.fieldLink "LastSpeakers$Tongue" (24 : Nat) "LastSpeakers$Tongue" "things" "Ljava/util/ArrayList;") ∈ lw_all := lw_g (lw_at lw_m1 100 rfl) rfl
theorem q201 : (Jvm.Cond.fieldLink "LastSpeakers$Tongue" (28 : Nat) "LastSpeakers$Tongue" "people" "Ljava/util/ArrayList;") ∈ lw_all := lw_g (lw_at lw_m1 103 rfl) rfl
theorem q204 : (Jvm.Cond.fieldLink "LastSpeakers$Tongue" (31 : Nat) "LastSpeakers$Tongue" "follows" "Ljava/util/ArrayList;") ∈ lw_all := lw_g (lw_at lw_m1 106 rfl) rfl
theorem q206 : (Jvm.Cond.fieldLink "LastSpeakers$Tongue" (34 : Nat) "LastSpeakers$Tongue" "month" "I") ∈ lw_all := lw_g (lw_at lw_m1 108 rfl) rfl
theorem q209 : (Jvm.Cond.fieldLink "LastSpeakers$Tongue" (38 : Nat) "LastSpeakers$Tongue" "nameMany" "I") ∈ lw_all := lw_g (lw_at lw_m1 111 rfl) rfl
theorem q212 : (Jvm.Cond.laysFinal "LastSpeakers$Tongue" "LastSpeakers$Tongue" "names" "[J") ∈ lw_all := lw_g (lw_at lw_m1 114 rfl) rfl
theorem q213 : (Jvm.Cond.soleField "LastSpeakers$Tongue" "names") ∈ lw_all := lw_g (lw_at lw_m1 115 rfl) rfl
theorem q214 : (Jvm.Cond.laysFinal "LastSpeakers$Tongue" "LastSpeakers$Tongue" "named" "[I") ∈ lw_all := lw_g (lw_at lw_m1 116 rfl) rfl
theorem q215 : (Jvm.Cond.soleField "LastSpeakers$Tongue" "named") ∈ lw_all := lw_g (lw_at lw_m1 117 rfl) rfl
theorem q216 : (Jvm.Cond.laysFinal "LastSpeakers$Tongue" "LastSpeakers$Tongue" "things" "Ljava/util/ArrayList;") ∈ lw_all := lw_g (lw_at lw_m1 118 rfl) rfl
theorem q217 : (Jvm.Cond.soleField "LastSpeakers$Tongue" "things") ∈ lw_all := lw_g (lw_at lw_m1 119 rfl) rfl
theorem q218 : (Jvm.Cond.laysFinal "LastSpeakers$Tongue" "LastSpeakers$Tongue" "people" "Ljava/util/ArrayList;") ∈ lw_all := lw_g (lw_at lw_m1 120 rfl) rfl
theorem q219 : (Jvm.Cond.soleField "LastSpeakers$Tongue" "people") ∈ lw_all := lw_g (lw_at lw_m1 121 rfl) rfl
theorem q220 : (Jvm.Cond.laysFinal "LastSpeakers$Tongue" "LastSpeakers$Tongue" "follows" "Ljava/util/ArrayList;") ∈ lw_all := lw_g (lw_at lw_m1 122 rfl) rfl
theorem q221 : (Jvm.Cond.soleField "LastSpeakers$Tongue" "follows") ∈ lw_all := lw_g (lw_at lw_m1 123 rfl) rfl
theorem q222 : (Jvm.Cond.lays "LastSpeakers$Tongue" "LastSpeakers$Tongue" "month" "I") ∈ lw_all := lw_g (lw_at lw_m1 124 rfl) rfl
theorem q223 : (Jvm.Cond.soleField "LastSpeakers$Tongue" "month") ∈ lw_all := lw_g (lw_at lw_m1 125 rfl) rfl
theorem q224 : (Jvm.Cond.lays "LastSpeakers$Tongue" "LastSpeakers$Tongue" "nameMany" "I") ∈ lw_all := lw_g (lw_at lw_m1 126 rfl) rfl
theorem q225 : (Jvm.Cond.soleField "LastSpeakers$Tongue" "nameMany") ∈ lw_all := lw_g (lw_at lw_m1 127 rfl) rfl
theorem q226 : (Jvm.Cond.lays "LastSpeakers$Tongue" "LastSpeakers$Tongue" "leanMany" "I") ∈ lw_all := lw_g (lw_at lw_m1 128 rfl) rfl
theorem q227 : (Jvm.Cond.soleField "LastSpeakers$Tongue" "leanMany") ∈ lw_all := lw_g (lw_at lw_m1 129 rfl) rfl
theorem q228 : (Jvm.Cond.lays "LastSpeakers$Tongue" "LastSpeakers$Tongue" "nearMany" "I") ∈ lw_all := lw_g (lw_at lw_m1 130 rfl) rfl
theorem q229 : (Jvm.Cond.soleField "LastSpeakers$Tongue" "nearMany") ∈ lw_all := lw_g (lw_at lw_m1 131 rfl) rfl
theorem q230 : (Jvm.Cond.superclass "LastSpeakers$Tongue" "java/lang/Object") ∈ lw_all := lw_g (lw_at lw_m1 132 rfl) rfl
theorem q360 : (Jvm.Cond.instanceMethod ({ cls := "LastSpeakers$Tongue", name := "find", desc := "(J)I" } : Jvm.MethodName)) ∈ lw_all := lw_g (lw_at lw_m2 22 rfl) rfl
theorem q361 : (Jvm.Cond.selects "LastSpeakers$Tongue" ({ cls := "LastSpeakers$Tongue", name := "find", desc := "(J)I" } : Jvm.MethodName) ({ cls := "LastSpeakers$Tongue", name := "find", desc := "(J)I" } : Jvm.MethodName)) ∈ lw_all := lw_g (lw_at lw_m2 23 rfl) rfl
theorem q362 : (Jvm.Cond.code ({ cls := "LastSpeakers$Tongue", name := "find", desc := "(J)I" } : Jvm.MethodName) prog_9_method_2_code (4 : Nat) (Option.some Jvm.ClassFile.FieldType.int)) ∈ lw_all := lw_g (lw_at lw_m2 24 rfl) rfl
theorem q372 : (Jvm.Cond.instanceMethod ({ cls := "LastSpeakers$Tongue", name := "adds", desc := "(JI)V" } : Jvm.MethodName)) ∈ lw_all := lw_g (lw_at lw_m2 34 rfl) rfl
theorem q373 : (Jvm.Cond.selects "LastSpeakers$Tongue" ({ cls := "LastSpeakers$Tongue", name := "adds", desc := "(JI)V" } : Jvm.MethodName) ({ cls := "LastSpeakers$Tongue", name := "adds", desc := "(JI)V" } : Jvm.MethodName)) ∈ lw_all := lw_g (lw_at lw_m2 35 rfl) rfl
theorem q374 : (Jvm.Cond.code ({ cls := "LastSpeakers$Tongue", name := "adds", desc := "(JI)V" } : Jvm.MethodName) prog_9_method_3_code (4 : Nat) (Option.none : Option Jvm.ClassFile.FieldType)) ∈ lw_all := lw_g (lw_at lw_m2 36 rfl) rfl
theorem q382 : (Jvm.Cond.fieldLinkNest "LastSpeakers$Tongue" (60 : Nat) "LastSpeakers$Thing" "worth" "I" "LastSpeakers") ∈ lw_tbl := lw_at lw_m2 44 rfl
theorem q385 : (Jvm.Cond.fieldLinkNest "LastSpeakers$Tongue" (63 : Nat) "LastSpeakers$Thing" "hours" "I" "LastSpeakers") ∈ lw_tbl := lw_at lw_m2 47 rfl
theorem q442 : (Jvm.Cond.selects "LastSpeakers$Tongue" ({ cls := "java/lang/Object", name := "getClass", desc := "()Ljava/lang/Class;" } : Jvm.MethodName) ({ cls := "java/lang/Object", name := "getClass", desc := "()Ljava/lang/Class;" } : Jvm.MethodName)) ∈ lw_all := lw_g (lw_at lw_m2 104 rfl) rfl
theorem q539 : (Jvm.Cond.fieldLinkNest "LastSpeakers$Tongue" (51 : Nat) "LastSpeakers$Follow" "thing" "I" "LastSpeakers") ∈ lw_tbl := lw_at lw_m2 201 rfl
theorem q793 : (Jvm.Cond.instanceMethod ({ cls := "LastSpeakers$Tongue", name := "closes", desc := "(II)I" } : Jvm.MethodName)) ∈ lw_all := lw_g (lw_at lw_m3 215 rfl) rfl
theorem q794 : (Jvm.Cond.selects "LastSpeakers$Tongue" ({ cls := "LastSpeakers$Tongue", name := "closes", desc := "(II)I" } : Jvm.MethodName) ({ cls := "LastSpeakers$Tongue", name := "closes", desc := "(II)I" } : Jvm.MethodName)) ∈ lw_all := lw_g (lw_at lw_m3 216 rfl) rfl
theorem q795 : (Jvm.Cond.code ({ cls := "LastSpeakers$Tongue", name := "closes", desc := "(II)I" } : Jvm.MethodName) prog_9_method_4_code (7 : Nat) (Option.some Jvm.ClassFile.FieldType.int)) ∈ lw_all := lw_g (lw_at lw_m3 217 rfl) rfl
theorem q796 : (Jvm.Cond.methodLink "LastSpeakers$Tongue" (41 : Nat) ({ cls := "java/util/ArrayList", name := "size", desc := "()I" } : Jvm.MethodName)) ∈ lw_all := lw_g (lw_at lw_m3 218 rfl) rfl
theorem q797 : (Jvm.Cond.methodLink "LastSpeakers$Tongue" (45 : Nat) ({ cls := "java/util/ArrayList", name := "get", desc := "(I)Ljava/lang/Object;" } : Jvm.MethodName)) ∈ lw_all := lw_g (lw_at lw_m3 219 rfl) rfl
theorem q798 : (Jvm.Cond.classLink "LastSpeakers$Tongue" (49 : Nat) "LastSpeakers$Follow") ∈ lw_all := lw_g (lw_at lw_m3 220 rfl) rfl
theorem q799 : (Jvm.Cond.methodLink "LastSpeakers$Tongue" (54 : Nat) ({ cls := "LastSpeakers$Follow", name := "holds", desc := "(I)Z" } : Jvm.MethodName)) ∈ lw_all := lw_g (lw_at lw_m3 221 rfl) rfl
theorem q812 : (Jvm.Cond.instanceMethod ({ cls := "LastSpeakers$Tongue", name := "worth", desc := "(I)I" } : Jvm.MethodName)) ∈ lw_all := lw_g (lw_at lw_m3 234 rfl) rfl
theorem q813 : (Jvm.Cond.selects "LastSpeakers$Tongue" ({ cls := "LastSpeakers$Tongue", name := "worth", desc := "(I)I" } : Jvm.MethodName) ({ cls := "LastSpeakers$Tongue", name := "worth", desc := "(I)I" } : Jvm.MethodName)) ∈ lw_all := lw_g (lw_at lw_m3 235 rfl) rfl
theorem q814 : (Jvm.Cond.code ({ cls := "LastSpeakers$Tongue", name := "worth", desc := "(I)I" } : Jvm.MethodName) prog_9_method_5_code (4 : Nat) (Option.some Jvm.ClassFile.FieldType.int)) ∈ lw_all := lw_g (lw_at lw_m3 236 rfl) rfl
theorem q815 : (Jvm.Cond.classLink "LastSpeakers$Tongue" (58 : Nat) "LastSpeakers$Thing") ∈ lw_all := lw_g (lw_at lw_m3 237 rfl) rfl
theorem q899 : (Jvm.Cond.instanceMethod ({ cls := "LastSpeakers$Tongue", name := "hours", desc := "(I)I" } : Jvm.MethodName)) ∈ lw_all := lw_g (lw_at lw_m4 81 rfl) rfl
theorem q900 : (Jvm.Cond.selects "LastSpeakers$Tongue" ({ cls := "LastSpeakers$Tongue", name := "hours", desc := "(I)I" } : Jvm.MethodName) ({ cls := "LastSpeakers$Tongue", name := "hours", desc := "(I)I" } : Jvm.MethodName)) ∈ lw_all := lw_g (lw_at lw_m4 82 rfl) rfl
theorem q901 : (Jvm.Cond.code ({ cls := "LastSpeakers$Tongue", name := "hours", desc := "(I)I" } : Jvm.MethodName) prog_9_method_6_code (4 : Nat) (Option.some Jvm.ClassFile.FieldType.int)) ∈ lw_all := lw_g (lw_at lw_m4 83 rfl) rfl
theorem q1599 : (Jvm.Cond.castable "LastSpeakers$Tongue" "java/lang/Object") ∈ lw_tbl := lw_at lw_m7 61 rfl
theorem q114 : (Jvm.Cond.initialized "LastSpeakers$Thing") ∈ lw_all := lw_g (lw_at lw_m1 16 rfl) rfl
theorem q376 : (Jvm.Cond.instantiable "LastSpeakers$Thing" (4 : Nat)) ∈ lw_all := lw_g (lw_at lw_m2 38 rfl) rfl
theorem q378 : (Jvm.Cond.instanceMethod ({ cls := "LastSpeakers$Thing", name := "<init>", desc := "(II)V" } : Jvm.MethodName)) ∈ lw_all := lw_g (lw_at lw_m2 40 rfl) rfl
theorem q379 : (Jvm.Cond.code ({ cls := "LastSpeakers$Thing", name := "<init>", desc := "(II)V" } : Jvm.MethodName) prog_8_method_1_code (3 : Nat) (Option.none : Option Jvm.ClassFile.FieldType)) ∈ lw_all := lw_g (lw_at lw_m2 41 rfl) rfl
theorem q380 : (Jvm.Cond.methodLink "LastSpeakers$Thing" (1 : Nat) ({ cls := "java/lang/Object", name := "<init>", desc := "()V" } : Jvm.MethodName)) ∈ lw_all := lw_g (lw_at lw_m2 42 rfl) rfl
theorem q381 : (Jvm.Cond.fieldLink "LastSpeakers$Thing" (7 : Nat) "LastSpeakers$Thing" "worth" "I") ∈ lw_all := lw_g (lw_at lw_m2 43 rfl) rfl
theorem q384 : (Jvm.Cond.fieldLink "LastSpeakers$Thing" (13 : Nat) "LastSpeakers$Thing" "hours" "I") ∈ lw_all := lw_g (lw_at lw_m2 46 rfl) rfl
theorem q391 : (Jvm.Cond.laysFinal "LastSpeakers$Thing" "LastSpeakers$Thing" "worth" "I") ∈ lw_all := lw_g (lw_at lw_m2 53 rfl) rfl
theorem q392 : (Jvm.Cond.soleField "LastSpeakers$Thing" "worth") ∈ lw_all := lw_g (lw_at lw_m2 54 rfl) rfl
theorem q393 : (Jvm.Cond.laysFinal "LastSpeakers$Thing" "LastSpeakers$Thing" "hours" "I") ∈ lw_all := lw_g (lw_at lw_m2 55 rfl) rfl
theorem q394 : (Jvm.Cond.soleField "LastSpeakers$Thing" "hours") ∈ lw_all := lw_g (lw_at lw_m2 56 rfl) rfl
theorem q395 : (Jvm.Cond.lays "LastSpeakers$Thing" "LastSpeakers$Thing" "leans" "I") ∈ lw_all := lw_g (lw_at lw_m2 57 rfl) rfl
theorem q396 : (Jvm.Cond.soleField "LastSpeakers$Thing" "leans") ∈ lw_all := lw_g (lw_at lw_m2 58 rfl) rfl
theorem q397 : (Jvm.Cond.lays "LastSpeakers$Thing" "LastSpeakers$Thing" "reminds" "I") ∈ lw_all := lw_g (lw_at lw_m2 59 rfl) rfl
theorem q398 : (Jvm.Cond.soleField "LastSpeakers$Thing" "reminds") ∈ lw_all := lw_g (lw_at lw_m2 60 rfl) rfl
theorem q399 : (Jvm.Cond.superclass "LastSpeakers$Thing" "java/lang/Object") ∈ lw_all := lw_g (lw_at lw_m2 61 rfl) rfl
theorem q441 : (Jvm.Cond.selects "LastSpeakers$Thing" ({ cls := "java/lang/Object", name := "getClass", desc := "()Ljava/lang/Class;" } : Jvm.MethodName) ({ cls := "java/lang/Object", name := "getClass", desc := "()Ljava/lang/Class;" } : Jvm.MethodName)) ∈ lw_all := lw_g (lw_at lw_m2 103 rfl) rfl
theorem q1601 : (Jvm.Cond.castable "LastSpeakers$Thing" "java/lang/Object") ∈ lw_tbl := lw_at lw_m7 63 rfl
theorem q118 : (Jvm.Cond.initialized "LastSpeakers$Person") ∈ lw_all := lw_g (lw_at lw_m1 20 rfl) rfl
theorem q439 : (Jvm.Cond.selects "LastSpeakers$Person" ({ cls := "java/lang/Object", name := "getClass", desc := "()Ljava/lang/Class;" } : Jvm.MethodName) ({ cls := "java/lang/Object", name := "getClass", desc := "()Ljava/lang/Class;" } : Jvm.MethodName)) ∈ lw_all := lw_g (lw_at lw_m2 101 rfl) rfl
theorem q461 : (Jvm.Cond.instantiable "LastSpeakers$Person" (5 : Nat)) ∈ lw_all := lw_g (lw_at lw_m2 123 rfl) rfl
theorem q463 : (Jvm.Cond.instanceMethod ({ cls := "LastSpeakers$Person", name := "<init>", desc := "(I)V" } : Jvm.MethodName)) ∈ lw_all := lw_g (lw_at lw_m2 125 rfl) rfl
theorem q464 : (Jvm.Cond.code ({ cls := "LastSpeakers$Person", name := "<init>", desc := "(I)V" } : Jvm.MethodName) prog_6_method_1_code (2 : Nat) (Option.none : Option Jvm.ClassFile.FieldType)) ∈ lw_all := lw_g (lw_at lw_m2 126 rfl) rfl
theorem q465 : (Jvm.Cond.methodLink "LastSpeakers$Person" (3 : Nat) ({ cls := "java/lang/Object", name := "<init>", desc := "()V" } : Jvm.MethodName)) ∈ lw_all := lw_g (lw_at lw_m2 127 rfl) rfl
theorem q466 : (Jvm.Cond.fieldLink "LastSpeakers$Person" (22 : Nat) "LastSpeakers$Person" "stays" "I") ∈ lw_all := lw_g (lw_at lw_m2 128 rfl) rfl
theorem q468 : (Jvm.Cond.fieldLink "LastSpeakers$Person" (9 : Nat) "LastSpeakers$Person" "clear" "[I") ∈ lw_all := lw_g (lw_at lw_m2 130 rfl) rfl
theorem q471 : (Jvm.Cond.fieldLink "LastSpeakers$Person" (15 : Nat) "LastSpeakers$Person" "after" "[I") ∈ lw_all := lw_g (lw_at lw_m2 133 rfl) rfl
theorem q474 : (Jvm.Cond.fieldLink "LastSpeakers$Person" (18 : Nat) "LastSpeakers$Person" "isThere" "Z") ∈ lw_all := lw_g (lw_at lw_m2 136 rfl) rfl
theorem q477 : (Jvm.Cond.laysFinal "LastSpeakers$Person" "LastSpeakers$Person" "stays" "I") ∈ lw_all := lw_g (lw_at lw_m2 139 rfl) rfl
theorem q478 : (Jvm.Cond.soleField "LastSpeakers$Person" "stays") ∈ lw_all := lw_g (lw_at lw_m2 140 rfl) rfl
theorem q479 : (Jvm.Cond.laysFinal "LastSpeakers$Person" "LastSpeakers$Person" "clear" "[I") ∈ lw_all := lw_g (lw_at lw_m2 141 rfl) rfl
theorem q480 : (Jvm.Cond.soleField "LastSpeakers$Person" "clear") ∈ lw_all := lw_g (lw_at lw_m2 142 rfl) rfl
theorem q481 : (Jvm.Cond.laysFinal "LastSpeakers$Person" "LastSpeakers$Person" "after" "[I") ∈ lw_all := lw_g (lw_at lw_m2 143 rfl) rfl
theorem q482 : (Jvm.Cond.soleField "LastSpeakers$Person" "after") ∈ lw_all := lw_g (lw_at lw_m2 144 rfl) rfl
theorem q483 : (Jvm.Cond.lays "LastSpeakers$Person" "LastSpeakers$Person" "isThere" "Z") ∈ lw_all := lw_g (lw_at lw_m2 145 rfl) rfl
theorem q484 : (Jvm.Cond.soleField "LastSpeakers$Person" "isThere") ∈ lw_all := lw_g (lw_at lw_m2 146 rfl) rfl
theorem q485 : (Jvm.Cond.lays "LastSpeakers$Person" "LastSpeakers$Person" "asked" "I") ∈ lw_all := lw_g (lw_at lw_m2 147 rfl) rfl
theorem q486 : (Jvm.Cond.soleField "LastSpeakers$Person" "asked") ∈ lw_all := lw_g (lw_at lw_m2 148 rfl) rfl
theorem q487 : (Jvm.Cond.superclass "LastSpeakers$Person" "java/lang/Object") ∈ lw_all := lw_g (lw_at lw_m2 149 rfl) rfl
theorem q513 : (Jvm.Cond.instanceMethod ({ cls := "LastSpeakers$Person", name := "knows", desc := "(I)Z" } : Jvm.MethodName)) ∈ lw_all := lw_g (lw_at lw_m2 175 rfl) rfl
theorem q514 : (Jvm.Cond.selects "LastSpeakers$Person" ({ cls := "LastSpeakers$Person", name := "knows", desc := "(I)Z" } : Jvm.MethodName) ({ cls := "LastSpeakers$Person", name := "knows", desc := "(I)Z" } : Jvm.MethodName)) ∈ lw_all := lw_g (lw_at lw_m2 176 rfl) rfl
theorem q515 : (Jvm.Cond.code ({ cls := "LastSpeakers$Person", name := "knows", desc := "(I)Z" } : Jvm.MethodName) prog_6_method_2_code (2 : Nat) (Option.some Jvm.ClassFile.FieldType.boolean)) ∈ lw_all := lw_g (lw_at lw_m2 177 rfl) rfl
theorem q1602 : (Jvm.Cond.castable "LastSpeakers$Person" "java/lang/Object") ∈ lw_tbl := lw_at lw_m7 64 rfl
theorem q120 : (Jvm.Cond.initialized "LastSpeakers$Follow") ∈ lw_all := lw_g (lw_at lw_m1 22 rfl) rfl
theorem q436 : (Jvm.Cond.selects "LastSpeakers$Follow" ({ cls := "java/lang/Object", name := "getClass", desc := "()Ljava/lang/Class;" } : Jvm.MethodName) ({ cls := "java/lang/Object", name := "getClass", desc := "()Ljava/lang/Class;" } : Jvm.MethodName)) ∈ lw_all := lw_g (lw_at lw_m2 98 rfl) rfl
theorem q533 : (Jvm.Cond.instantiable "LastSpeakers$Follow" (2 : Nat)) ∈ lw_all := lw_g (lw_at lw_m2 195 rfl) rfl
theorem q535 : (Jvm.Cond.instanceMethod ({ cls := "LastSpeakers$Follow", name := "<init>", desc := "(II)V" } : Jvm.MethodName)) ∈ lw_all := lw_g (lw_at lw_m2 197 rfl) rfl
theorem q536 : (Jvm.Cond.code ({ cls := "LastSpeakers$Follow", name := "<init>", desc := "(II)V" } : Jvm.MethodName) prog_3_method_1_code (3 : Nat) (Option.none : Option Jvm.ClassFile.FieldType)) ∈ lw_all := lw_g (lw_at lw_m2 198 rfl) rfl
theorem q537 : (Jvm.Cond.methodLink "LastSpeakers$Follow" (1 : Nat) ({ cls := "java/lang/Object", name := "<init>", desc := "()V" } : Jvm.MethodName)) ∈ lw_all := lw_g (lw_at lw_m2 199 rfl) rfl
theorem q538 : (Jvm.Cond.fieldLink "LastSpeakers$Follow" (7 : Nat) "LastSpeakers$Follow" "thing" "I") ∈ lw_all := lw_g (lw_at lw_m2 200 rfl) rfl
theorem q540 : (Jvm.Cond.fieldLink "LastSpeakers$Follow" (13 : Nat) "LastSpeakers$Follow" "of" "I") ∈ lw_all := lw_g (lw_at lw_m2 202 rfl) rfl
theorem q541 : (Jvm.Cond.laysFinal "LastSpeakers$Follow" "LastSpeakers$Follow" "thing" "I") ∈ lw_all := lw_g (lw_at lw_m2 203 rfl) rfl
theorem q542 : (Jvm.Cond.soleField "LastSpeakers$Follow" "thing") ∈ lw_all := lw_g (lw_at lw_m2 204 rfl) rfl
theorem q543 : (Jvm.Cond.laysFinal "LastSpeakers$Follow" "LastSpeakers$Follow" "of" "I") ∈ lw_all := lw_g (lw_at lw_m2 205 rfl) rfl
theorem q544 : (Jvm.Cond.soleField "LastSpeakers$Follow" "of") ∈ lw_all := lw_g (lw_at lw_m2 206 rfl) rfl
theorem q545 : (Jvm.Cond.superclass "LastSpeakers$Follow" "java/lang/Object") ∈ lw_all := lw_g (lw_at lw_m2 207 rfl) rfl
theorem q800 : (Jvm.Cond.instanceMethod ({ cls := "LastSpeakers$Follow", name := "holds", desc := "(I)Z" } : Jvm.MethodName)) ∈ lw_all := lw_g (lw_at lw_m3 222 rfl) rfl
theorem q801 : (Jvm.Cond.selects "LastSpeakers$Follow" ({ cls := "LastSpeakers$Follow", name := "holds", desc := "(I)Z" } : Jvm.MethodName) ({ cls := "LastSpeakers$Follow", name := "holds", desc := "(I)Z" } : Jvm.MethodName)) ∈ lw_all := lw_g (lw_at lw_m3 223 rfl) rfl
theorem q802 : (Jvm.Cond.code ({ cls := "LastSpeakers$Follow", name := "holds", desc := "(I)Z" } : Jvm.MethodName) prog_3_method_2_code (2 : Nat) (Option.some Jvm.ClassFile.FieldType.boolean)) ∈ lw_all := lw_g (lw_at lw_m3 224 rfl) rfl
theorem q1603 : (Jvm.Cond.castable "LastSpeakers$Follow" "java/lang/Object") ∈ lw_tbl := lw_at lw_m7 65 rfl
theorem q98 : (Jvm.Cond.initialized "LastSpeakersLaw") ∈ lw_all := lw_g (lw_at lw_m1 0 rfl) rfl
theorem q122 : (Jvm.Cond.methodLink "LastSpeakersLaw" (13 : Nat) ({ cls := "LastSpeakers", name := "feed", desc := "(IIIII)I" } : Jvm.MethodName)) ∈ lw_all := lw_g (lw_at lw_m1 24 rfl) rfl
theorem q131 : (Jvm.Cond.methodLink "LastSpeakersLaw" (18 : Nat) ({ cls := "LastSpeakers", name := "end", desc := "(I)Z" } : Jvm.MethodName)) ∈ lw_all := lw_g (lw_at lw_m1 33 rfl) rfl
theorem q138 : (Jvm.Cond.methodLink "LastSpeakersLaw" (23 : Nat) ({ cls := "LastSpeakers", name := "fault", desc := "()I" } : Jvm.MethodName)) ∈ lw_all := lw_g (lw_at lw_m1 40 rfl) rfl
theorem q550 : (Jvm.Cond.classLink "LastSpeakersLaw" (7 : Nat) "LastSpeakers") ∈ lw_all := lw_g (lw_at lw_m2 212 rfl) rfl
theorem q551 : (Jvm.Cond.methodLink "LastSpeakersLaw" (9 : Nat) ({ cls := "LastSpeakers", name := "<init>", desc := "()V" } : Jvm.MethodName)) ∈ lw_all := lw_g (lw_at lw_m2 213 rfl) rfl
theorem q739 : (Jvm.Cond.methodLink "LastSpeakersLaw" (28 : Nat) ({ cls := "LastSpeakers", name := "tongue", desc := "()I" } : Jvm.MethodName)) ∈ lw_all := lw_g (lw_at lw_m3 161 rfl) rfl
theorem q744 : (Jvm.Cond.methodLink "LastSpeakersLaw" (32 : Nat) ({ cls := "LastSpeakers", name := "thing", desc := "(II)I" } : Jvm.MethodName)) ∈ lw_all := lw_g (lw_at lw_m3 166 rfl) rfl
theorem q766 : (Jvm.Cond.methodLink "LastSpeakersLaw" (37 : Nat) ({ cls := "LastSpeakers", name := "person", desc := "(II)I" } : Jvm.MethodName)) ∈ lw_all := lw_g (lw_at lw_m3 188 rfl) rfl
theorem q779 : (Jvm.Cond.methodLink "LastSpeakersLaw" (41 : Nat) ({ cls := "LastSpeakers", name := "knows", desc := "(III)I" } : Jvm.MethodName)) ∈ lw_all := lw_g (lw_at lw_m3 201 rfl) rfl
theorem q784 : (Jvm.Cond.methodLink "LastSpeakersLaw" (46 : Nat) ({ cls := "LastSpeakers", name := "follows", desc := "(I)I" } : Jvm.MethodName)) ∈ lw_all := lw_g (lw_at lw_m3 206 rfl) rfl
theorem q803 : (Jvm.Cond.methodLink "LastSpeakersLaw" (51 : Nat) ({ cls := "LastSpeakers", name := "have", desc := "(I)I" } : Jvm.MethodName)) ∈ lw_all := lw_g (lw_at lw_m3 225 rfl) rfl
theorem q822 : (Jvm.Cond.methodLink "LastSpeakersLaw" (55 : Nat) ({ cls := "LastSpeakers", name := "seed", desc := "(I)Z" } : Jvm.MethodName)) ∈ lw_all := lw_g (lw_at lw_m4 4 rfl) rfl
theorem q827 : (Jvm.Cond.methodLink "LastSpeakersLaw" (67 : Nat) ({ cls := "LastSpeakers", name := "rest", desc := "(I)I" } : Jvm.MethodName)) ∈ lw_all := lw_g (lw_at lw_m4 9 rfl) rfl
theorem q844 : (Jvm.Cond.methodLink "LastSpeakersLaw" (59 : Nat) ({ cls := "LastSpeakers", name := "may", desc := "(II)I" } : Jvm.MethodName)) ∈ lw_all := lw_g (lw_at lw_m4 26 rfl) rfl
theorem q856 : (Jvm.Cond.methodLink "LastSpeakersLaw" (63 : Nat) ({ cls := "LastSpeakers", name := "ask", desc := "(II)I" } : Jvm.MethodName)) ∈ lw_all := lw_g (lw_at lw_m4 38 rfl) rfl
theorem q868 : (Jvm.Cond.methodLink "LastSpeakersLaw" (71 : Nat) ({ cls := "LastSpeakers", name := "log", desc := "(II)I" } : Jvm.MethodName)) ∈ lw_all := lw_g (lw_at lw_m4 50 rfl) rfl
theorem q872 : (Jvm.Cond.methodLink "LastSpeakersLaw" (138 : Nat) ({ cls := "LastSpeakers", name := "most", desc := "()I" } : Jvm.MethodName)) ∈ lw_all := lw_g (lw_at lw_m4 54 rfl) rfl
theorem q876 : (Jvm.Cond.methodLink "LastSpeakersLaw" (75 : Nat) ({ cls := "LastSpeakers", name := "best", desc := "(II)I" } : Jvm.MethodName)) ∈ lw_all := lw_g (lw_at lw_m4 58 rfl) rfl
theorem q902 : (Jvm.Cond.methodLink "LastSpeakersLaw" (79 : Nat) ({ cls := "LastSpeakers", name := "order", desc := "(II)I" } : Jvm.MethodName)) ∈ lw_all := lw_g (lw_at lw_m4 84 rfl) rfl
theorem q906 : (Jvm.Cond.methodLink "LastSpeakersLaw" (142 : Nat) ({ cls := "LastSpeakers", name := "key", desc := "(II)I" } : Jvm.MethodName)) ∈ lw_all := lw_g (lw_at lw_m4 88 rfl) rfl
theorem q910 : (Jvm.Cond.methodLink "LastSpeakersLaw" (134 : Nat) ({ cls := "LastSpeakers", name := "lost", desc := "(I)I" } : Jvm.MethodName)) ∈ lw_all := lw_g (lw_at lw_m4 92 rfl) rfl
theorem q918 : (Jvm.Cond.methodLink "LastSpeakersLaw" (83 : Nat) ({ cls := "LastSpeakers", name := "value", desc := "(I)I" } : Jvm.MethodName)) ∈ lw_all := lw_g (lw_at lw_m4 100 rfl) rfl
theorem q948 : (Jvm.Cond.methodLink "LastSpeakersLaw" (87 : Nat) ({ cls := "LastSpeakers", name := "next", desc := "(I)I" } : Jvm.MethodName)) ∈ lw_all := lw_g (lw_at lw_m4 130 rfl) rfl
theorem q952 : (Jvm.Cond.methodLink "LastSpeakersLaw" (91 : Nat) ({ cls := "LastSpeakers", name := "plan", desc := "(II)I" } : Jvm.MethodName)) ∈ lw_all := lw_g (lw_at lw_m4 134 rfl) rfl
theorem q956 : (Jvm.Cond.methodLink "LastSpeakersLaw" (95 : Nat) ({ cls := "LastSpeakers", name := "clear", desc := "()I" } : Jvm.MethodName)) ∈ lw_all := lw_g (lw_at lw_m4 138 rfl) rfl
theorem q960 : (Jvm.Cond.methodLink "LastSpeakersLaw" (99 : Nat) ({ cls := "LastSpeakers", name := "judge", desc := "(I)I" } : Jvm.MethodName)) ∈ lw_all := lw_g (lw_at lw_m4 142 rfl) rfl
theorem q977 : (Jvm.Cond.methodLink "LastSpeakersLaw" (103 : Nat) ({ cls := "LastSpeakers", name := "hear", desc := "(IIII)I" } : Jvm.MethodName)) ∈ lw_all := lw_g (lw_at lw_m4 159 rfl) rfl
theorem q985 : (Jvm.Cond.methodLink "LastSpeakersLaw" (108 : Nat) ({ cls := "LastSpeakers", name := "unhear", desc := "()I" } : Jvm.MethodName)) ∈ lw_all := lw_g (lw_at lw_m4 167 rfl) rfl
theorem q989 : (Jvm.Cond.methodLink "LastSpeakersLaw" (112 : Nat) ({ cls := "LastSpeakers", name := "book", desc := "(IIIZ)Z" } : Jvm.MethodName)) ∈ lw_all := lw_g (lw_at lw_m4 171 rfl) rfl
theorem q993 : (Jvm.Cond.methodLink "LastSpeakersLaw" (117 : Nat) ({ cls := "LastSpeakers", name := "version", desc := "(II)I" } : Jvm.MethodName)) ∈ lw_all := lw_g (lw_at lw_m4 175 rfl) rfl
theorem q1015 : (Jvm.Cond.methodLink "LastSpeakersLaw" (121 : Nat) ({ cls := "LastSpeakers", name := "again", desc := "(I)I" } : Jvm.MethodName)) ∈ lw_all := lw_g (lw_at lw_m4 197 rfl) rfl
theorem q1023 : (Jvm.Cond.methodLink "LastSpeakersLaw" (125 : Nat) ({ cls := "LastSpeakers", name := "pleasing", desc := "(I)I" } : Jvm.MethodName)) ∈ lw_all := lw_g (lw_at lw_m4 205 rfl) rfl
theorem q1027 : (Jvm.Cond.methodLink "LastSpeakersLaw" (129 : Nat) ({ cls := "LastSpeakers", name := "right", desc := "(Z)I" } : Jvm.MethodName)) ∈ lw_all := lw_g (lw_at lw_m4 209 rfl) rfl
theorem q1031 : (Jvm.Cond.methodLink "LastSpeakersLaw" (146 : Nat) ({ cls := "LastSpeakers", name := "image", desc := "(I)Z" } : Jvm.MethodName)) ∈ lw_all := lw_g (lw_at lw_m4 213 rfl) rfl
theorem q1043 : (Jvm.Cond.methodLink "LastSpeakersLaw" (150 : Nat) ({ cls := "LastSpeakers", name := "on", desc := "(I)Z" } : Jvm.MethodName)) ∈ lw_all := lw_g (lw_at lw_m4 225 rfl) rfl
theorem q1047 : (Jvm.Cond.methodLink "LastSpeakersLaw" (154 : Nat) ({ cls := "LastSpeakers", name := "count", desc := "(I)I" } : Jvm.MethodName)) ∈ lw_all := lw_g (lw_at lw_m4 229 rfl) rfl
theorem q1051 : (Jvm.Cond.classLink "LastSpeakersLaw" (10 : Nat) "LastSpeakersModel") ∈ lw_all := lw_g (lw_at lw_m4 233 rfl) rfl
theorem q1053 : (Jvm.Cond.methodLink "LastSpeakersLaw" (12 : Nat) ({ cls := "LastSpeakersModel", name := "<init>", desc := "()V" } : Jvm.MethodName)) ∈ lw_all := lw_g (lw_at lw_m4 235 rfl) rfl
theorem q1248 : (Jvm.Cond.methodLink "LastSpeakersLaw" (17 : Nat) ({ cls := "LastSpeakersModel", name := "feed", desc := "(IIIII)I" } : Jvm.MethodName)) ∈ lw_all := lw_g (lw_at lw_m5 190 rfl) rfl
theorem q1252 : (Jvm.Cond.methodLink "LastSpeakersLaw" (22 : Nat) ({ cls := "LastSpeakersModel", name := "end", desc := "(I)Z" } : Jvm.MethodName)) ∈ lw_all := lw_g (lw_at lw_m5 194 rfl) rfl
theorem q1259 : (Jvm.Cond.methodLink "LastSpeakersLaw" (27 : Nat) ({ cls := "LastSpeakersModel", name := "fault", desc := "()I" } : Jvm.MethodName)) ∈ lw_all := lw_g (lw_at lw_m5 201 rfl) rfl
theorem q1340 : (Jvm.Cond.methodLink "LastSpeakersLaw" (31 : Nat) ({ cls := "LastSpeakersModel", name := "tongue", desc := "()I" } : Jvm.MethodName)) ∈ lw_all := lw_g (lw_at lw_m6 42 rfl) rfl
theorem q1345 : (Jvm.Cond.methodLink "LastSpeakersLaw" (36 : Nat) ({ cls := "LastSpeakersModel", name := "thing", desc := "(II)I" } : Jvm.MethodName)) ∈ lw_all := lw_g (lw_at lw_m6 47 rfl) rfl
theorem q1364 : (Jvm.Cond.methodLink "LastSpeakersLaw" (40 : Nat) ({ cls := "LastSpeakersModel", name := "person", desc := "(II)I" } : Jvm.MethodName)) ∈ lw_all := lw_g (lw_at lw_m6 66 rfl) rfl
theorem q1372 : (Jvm.Cond.methodLink "LastSpeakersLaw" (45 : Nat) ({ cls := "LastSpeakersModel", name := "knows", desc := "(III)I" } : Jvm.MethodName)) ∈ lw_all := lw_g (lw_at lw_m6 74 rfl) rfl
theorem q1380 : (Jvm.Cond.methodLink "LastSpeakersLaw" (50 : Nat) ({ cls := "LastSpeakersModel", name := "follows", desc := "(I)I" } : Jvm.MethodName)) ∈ lw_all := lw_g (lw_at lw_m6 82 rfl) rfl
theorem q1392 : (Jvm.Cond.methodLink "LastSpeakersLaw" (54 : Nat) ({ cls := "LastSpeakersModel", name := "have", desc := "(I)I" } : Jvm.MethodName)) ∈ lw_all := lw_g (lw_at lw_m6 94 rfl) rfl
theorem q1399 : (Jvm.Cond.methodLink "LastSpeakersLaw" (58 : Nat) ({ cls := "LastSpeakersModel", name := "seed", desc := "(I)Z" } : Jvm.MethodName)) ∈ lw_all := lw_g (lw_at lw_m6 101 rfl) rfl
theorem q1404 : (Jvm.Cond.methodLink "LastSpeakersLaw" (62 : Nat) ({ cls := "LastSpeakersModel", name := "may", desc := "(II)I" } : Jvm.MethodName)) ∈ lw_all := lw_g (lw_at lw_m6 106 rfl) rfl
theorem q1412 : (Jvm.Cond.methodLink "LastSpeakersLaw" (66 : Nat) ({ cls := "LastSpeakersModel", name := "ask", desc := "(II)I" } : Jvm.MethodName)) ∈ lw_all := lw_g (lw_at lw_m6 114 rfl) rfl
theorem q1432 : (Jvm.Cond.methodLink "LastSpeakersLaw" (70 : Nat) ({ cls := "LastSpeakersModel", name := "rest", desc := "(I)I" } : Jvm.MethodName)) ∈ lw_all := lw_g (lw_at lw_m6 134 rfl) rfl
theorem q1436 : (Jvm.Cond.methodLink "LastSpeakersLaw" (74 : Nat) ({ cls := "LastSpeakersModel", name := "log", desc := "(II)I" } : Jvm.MethodName)) ∈ lw_all := lw_g (lw_at lw_m6 138 rfl) rfl
theorem q1440 : (Jvm.Cond.methodLink "LastSpeakersLaw" (78 : Nat) ({ cls := "LastSpeakersModel", name := "best", desc := "(II)I" } : Jvm.MethodName)) ∈ lw_all := lw_g (lw_at lw_m6 142 rfl) rfl
theorem q1468 : (Jvm.Cond.methodLink "LastSpeakersLaw" (82 : Nat) ({ cls := "LastSpeakersModel", name := "order", desc := "(II)I" } : Jvm.MethodName)) ∈ lw_all := lw_g (lw_at lw_m6 170 rfl) rfl
theorem q1472 : (Jvm.Cond.methodLink "LastSpeakersLaw" (86 : Nat) ({ cls := "LastSpeakersModel", name := "value", desc := "(I)I" } : Jvm.MethodName)) ∈ lw_all := lw_g (lw_at lw_m6 174 rfl) rfl
theorem q1497 : (Jvm.Cond.methodLink "LastSpeakersLaw" (90 : Nat) ({ cls := "LastSpeakersModel", name := "next", desc := "(I)I" } : Jvm.MethodName)) ∈ lw_all := lw_g (lw_at lw_m6 199 rfl) rfl
theorem q1501 : (Jvm.Cond.methodLink "LastSpeakersLaw" (94 : Nat) ({ cls := "LastSpeakersModel", name := "plan", desc := "(II)I" } : Jvm.MethodName)) ∈ lw_all := lw_g (lw_at lw_m6 203 rfl) rfl
theorem q1505 : (Jvm.Cond.methodLink "LastSpeakersLaw" (98 : Nat) ({ cls := "LastSpeakersModel", name := "clear", desc := "()I" } : Jvm.MethodName)) ∈ lw_all := lw_g (lw_at lw_m6 207 rfl) rfl
theorem q1509 : (Jvm.Cond.methodLink "LastSpeakersLaw" (102 : Nat) ({ cls := "LastSpeakersModel", name := "judge", desc := "(I)I" } : Jvm.MethodName)) ∈ lw_all := lw_g (lw_at lw_m6 211 rfl) rfl
theorem q1523 : (Jvm.Cond.methodLink "LastSpeakersLaw" (107 : Nat) ({ cls := "LastSpeakersModel", name := "hear", desc := "(IIII)I" } : Jvm.MethodName)) ∈ lw_all := lw_g (lw_at lw_m6 225 rfl) rfl
theorem q1527 : (Jvm.Cond.methodLink "LastSpeakersLaw" (111 : Nat) ({ cls := "LastSpeakersModel", name := "unhear", desc := "()I" } : Jvm.MethodName)) ∈ lw_all := lw_g (lw_at lw_m6 229 rfl) rfl
theorem q1531 : (Jvm.Cond.methodLink "LastSpeakersLaw" (116 : Nat) ({ cls := "LastSpeakersModel", name := "book", desc := "(IIIZ)Z" } : Jvm.MethodName)) ∈ lw_all := lw_g (lw_at lw_m6 233 rfl) rfl
theorem q1535 : (Jvm.Cond.methodLink "LastSpeakersLaw" (120 : Nat) ({ cls := "LastSpeakersModel", name := "version", desc := "(II)I" } : Jvm.MethodName)) ∈ lw_all := lw_g (lw_at lw_m6 237 rfl) rfl
theorem q1551 : (Jvm.Cond.methodLink "LastSpeakersLaw" (124 : Nat) ({ cls := "LastSpeakersModel", name := "again", desc := "(I)I" } : Jvm.MethodName)) ∈ lw_all := lw_g (lw_at lw_m7 13 rfl) rfl
theorem q1559 : (Jvm.Cond.methodLink "LastSpeakersLaw" (128 : Nat) ({ cls := "LastSpeakersModel", name := "pleasing", desc := "(I)I" } : Jvm.MethodName)) ∈ lw_all := lw_g (lw_at lw_m7 21 rfl) rfl
theorem q1563 : (Jvm.Cond.methodLink "LastSpeakersLaw" (133 : Nat) ({ cls := "LastSpeakersModel", name := "right", desc := "(Z)I" } : Jvm.MethodName)) ∈ lw_all := lw_g (lw_at lw_m7 25 rfl) rfl
theorem q1567 : (Jvm.Cond.methodLink "LastSpeakersLaw" (137 : Nat) ({ cls := "LastSpeakersModel", name := "lost", desc := "(I)I" } : Jvm.MethodName)) ∈ lw_all := lw_g (lw_at lw_m7 29 rfl) rfl
theorem q1571 : (Jvm.Cond.methodLink "LastSpeakersLaw" (141 : Nat) ({ cls := "LastSpeakersModel", name := "most", desc := "()I" } : Jvm.MethodName)) ∈ lw_all := lw_g (lw_at lw_m7 33 rfl) rfl
theorem q1575 : (Jvm.Cond.methodLink "LastSpeakersLaw" (145 : Nat) ({ cls := "LastSpeakersModel", name := "key", desc := "(II)I" } : Jvm.MethodName)) ∈ lw_all := lw_g (lw_at lw_m7 37 rfl) rfl
theorem q1579 : (Jvm.Cond.methodLink "LastSpeakersLaw" (149 : Nat) ({ cls := "LastSpeakersModel", name := "image", desc := "(I)Z" } : Jvm.MethodName)) ∈ lw_all := lw_g (lw_at lw_m7 41 rfl) rfl
theorem q1583 : (Jvm.Cond.methodLink "LastSpeakersLaw" (153 : Nat) ({ cls := "LastSpeakersModel", name := "on", desc := "(I)Z" } : Jvm.MethodName)) ∈ lw_all := lw_g (lw_at lw_m7 45 rfl) rfl
theorem q1587 : (Jvm.Cond.methodLink "LastSpeakersLaw" (157 : Nat) ({ cls := "LastSpeakersModel", name := "count", desc := "(I)I" } : Jvm.MethodName)) ∈ lw_all := lw_g (lw_at lw_m7 49 rfl) rfl
theorem q1609 : (Jvm.Cond.castable "[B" "java/lang/Object") ∈ lw_tbl := lw_at lw_m7 71 rfl
theorem q1611 : (Jvm.Cond.castable "[I" "java/lang/Object") ∈ lw_tbl := lw_at lw_m7 73 rfl
theorem q1610 : (Jvm.Cond.castable "[J" "java/lang/Object") ∈ lw_tbl := lw_at lw_m7 72 rfl
theorem q1612 : (Jvm.Cond.castable "[LLastSpeakers$Entry;" "java/lang/Object") ∈ lw_tbl := lw_at lw_m7 74 rfl
theorem q1615 : (Jvm.Cond.castable "[LLastSpeakers$Hearing;" "java/lang/Object") ∈ lw_tbl := lw_at lw_m7 77 rfl
theorem q1616 : (Jvm.Cond.castable "[LLastSpeakers$Image;" "java/lang/Object") ∈ lw_tbl := lw_at lw_m7 78 rfl
theorem q1604 : (Jvm.Cond.sameMethod "[Ljava/lang/Object;" "java/lang/Object" "getClass" "()Ljava/lang/Class;") ∈ lw_all := lw_g (lw_at lw_m7 66 rfl) rfl
theorem q1605 : (Jvm.Cond.selects "[Ljava/lang/Object;" ({ cls := "java/lang/Object", name := "getClass", desc := "()Ljava/lang/Class;" } : Jvm.MethodName) ({ cls := "java/lang/Object", name := "getClass", desc := "()Ljava/lang/Class;" } : Jvm.MethodName)) ∈ lw_all := lw_g (lw_at lw_m7 67 rfl) rfl
theorem q1608 : (Jvm.Cond.castable "[Ljava/lang/Object;" "java/lang/Object") ∈ lw_tbl := lw_at lw_m7 70 rfl
theorem q1607 : (Jvm.Cond.castable "[Ljava/lang/String;" "java/lang/Object") ∈ lw_tbl := lw_at lw_m7 69 rfl
theorem q1617 : (Jvm.Cond.castable "[Z" "java/lang/Object") ∈ lw_tbl := lw_at lw_m7 79 rfl
theorem q1614 : (Jvm.Cond.castable "[[I" "java/lang/Object") ∈ lw_tbl := lw_at lw_m7 76 rfl
theorem q1613 : (Jvm.Cond.castable "[[[I" "java/lang/Object") ∈ lw_tbl := lw_at lw_m7 75 rfl
theorem q117 : (Jvm.Cond.initialized "java/lang/System") ∈ lw_all := lw_g (lw_at lw_m1 19 rfl) rfl
theorem q453 : (Jvm.Cond.static ({ cls := "java/lang/System", name := "arraycopy", desc := "(Ljava/lang/Object;ILjava/lang/Object;II)V" } : Jvm.MethodName)) ∈ lw_all := lw_g (lw_at lw_m2 115 rfl) rfl
theorem q454 : (Jvm.Cond.native ({ cls := "java/lang/System", name := "arraycopy", desc := "(Ljava/lang/Object;ILjava/lang/Object;II)V" } : Jvm.MethodName)) ∈ lw_all := lw_g (lw_at lw_m2 116 rfl) rfl
theorem q151 : (Jvm.Cond.arrayOver (Jvm.ClassFile.FieldType.object "java/lang/String")) ∈ lw_tbl := lw_at lw_m1 53 rfl
theorem q178 : (Jvm.Cond.arrayOver (Jvm.ClassFile.FieldType.object "java/lang/Object")) ∈ lw_tbl := lw_at lw_m1 80 rfl
theorem q193 : (Jvm.Cond.arrayClass Jvm.ClassFile.FieldType.byte) ∈ lw_all := lw_g (lw_at lw_m1 95 rfl) rfl
theorem q194 : (Jvm.Cond.arrayClass Jvm.ClassFile.FieldType.long) ∈ lw_all := lw_g (lw_at lw_m1 96 rfl) rfl
theorem q195 : (Jvm.Cond.arrayClass Jvm.ClassFile.FieldType.int) ∈ lw_all := lw_g (lw_at lw_m1 97 rfl) rfl
theorem q556 : (Jvm.Cond.arrayOver (Jvm.ClassFile.FieldType.object "LastSpeakers$Entry")) ∈ lw_tbl := lw_at lw_m2 218 rfl
theorem q558 : (Jvm.Cond.arrayOver (Jvm.ClassFile.FieldType.array (Jvm.ClassFile.FieldType.array Jvm.ClassFile.FieldType.int))) ∈ lw_tbl := lw_at lw_m2 220 rfl
theorem q559 : (Jvm.Cond.arrayOver (Jvm.ClassFile.FieldType.array Jvm.ClassFile.FieldType.int)) ∈ lw_tbl := lw_at lw_m2 221 rfl
theorem q561 : (Jvm.Cond.arrayOver (Jvm.ClassFile.FieldType.object "LastSpeakers$Hearing")) ∈ lw_tbl := lw_at lw_m2 223 rfl
theorem q564 : (Jvm.Cond.arrayOver (Jvm.ClassFile.FieldType.object "LastSpeakers$Image")) ∈ lw_tbl := lw_at lw_m2 226 rfl
theorem q587 : (Jvm.Cond.arrayClass Jvm.ClassFile.FieldType.boolean) ∈ lw_all := lw_g (lw_at lw_m3 9 rfl) rfl
theorem in_J2 : ∀ w ∈ wsJ20, w ∈ lw_all := lw_in wsJ20 [190, 186, 188] (by decide +kernel) (by decide +kernel)
theorem in_X0 : ∀ w ∈ wsX00, w ∈ lw_all := lw_in wsX00 [684, 686, 688, 690, 692, 694, 696, 698, 700, 702, 704, 706, 708, 710, 712, 714, 716, 718, 720, 722, 724, 726, 728, 730, 732, 734, 736] (by decide +kernel) (by decide +kernel)
theorem in_X1 : ∀ w ∈ wsX10, w ∈ lw_all := lw_in wsX10 [578, 580, 582, 584] (by decide +kernel) (by decide +kernel)
theorem in_X2 : ∀ w ∈ wsX20, w ∈ lw_all := lw_in wsX20 [601, 603, 605, 607] (by decide +kernel) (by decide +kernel)
theorem in_X3 : ∀ w ∈ wsX30, w ∈ lw_all := lw_in wsX30 [634, 636, 638, 640, 642, 644, 646, 648, 650, 652, 654] (by decide +kernel) (by decide +kernel)
theorem in_X4 : ∀ w ∈ wsX40, w ∈ lw_all := lw_in wsX40 [1121, 1123, 1125, 1127, 1129, 1131, 1133, 1135, 1137, 1139, 1141, 1143, 1145, 1147, 1149, 1151, 1153, 1155, 1157, 1159, 1161, 1163, 1165, 1167, 1169, 1171, 1173, 1175, 1177, 1179, 1181, 1183, 1185, 1187, 1189, 1191, 1193, 1195, 1197, 1199, 1201, 1203, 1205, 1207, 1209, 1211, 1213, 1215, 1217, 1219, 1221, 1223, 1225, 1227, 1229, 1231, 1233, 1235, 1237, 1239, 1241, 1243, 1245] (by decide +kernel) (by decide +kernel)
theorem in_X5 : ∀ w ∈ wsX50, w ∈ lw_all := lw_in wsX50 [241, 243, 245, 247, 249, 251, 253, 255, 257] (by decide +kernel) (by decide +kernel)
theorem in_X6 : ∀ w ∈ wsX60, w ∈ lw_all := lw_in wsX60 [212, 214, 216, 218, 220, 222, 224, 226, 228] (by decide +kernel) (by decide +kernel)
theorem in_X7 : ∀ w ∈ wsX70, w ∈ lw_all := lw_in wsX70 [391, 393, 395, 397] (by decide +kernel) (by decide +kernel)
theorem in_X8 : ∀ w ∈ wsX80, w ∈ lw_all := lw_in wsX80 [477, 479, 481, 483, 485] (by decide +kernel) (by decide +kernel)
theorem in_X9 : ∀ w ∈ wsX90, w ∈ lw_all := lw_in wsX90 [541, 543] (by decide +kernel) (by decide +kernel)
